set_option maxRecDepth 100000
def RJ0 : String := "java/util/AbstractMap"
abbrev cJ0_init : ByteArray := prog_21_method_1_code
def yJ0_init : MethodName := ⟨RJ0, "<init>", "()V"⟩
theorem dJ0_init_0 : decode cJ0_init 0 = .ok (.aload_n 0, 1) := by decide +kernel
theorem dJ0_init_1 : decode cJ0_init 1 = .ok (.invokespecial 1, 3) := by decide +kernel
theorem dJ0_init_4 : decode cJ0_init 4 = .ok (.return_, 1) := by decide +kernel
abbrev cJ0_equals : ByteArray := prog_21_method_14_code
def yJ0_equals : MethodName := ⟨RJ0, "equals", "(Ljava/lang/Object;)Z"⟩
theorem dJ0_equals_0 : decode cJ0_equals 0 = .ok (.aload_n 1, 1) := by decide +kernel
theorem dJ0_equals_1 : decode cJ0_equals 1 = .ok (.aload_n 0, 1) := by decide +kernel
theorem dJ0_equals_2 : decode cJ0_equals 2 = .ok (.if_acmp .ne 5, 3) := by decide +kernel
theorem dJ0_equals_5 : decode cJ0_equals 5 = .ok (.iconst 1, 1) := by decide +kernel
theorem dJ0_equals_6 : decode cJ0_equals 6 = .ok (.ireturn, 1) := by decide +kernel
theorem dJ0_equals_7 : decode cJ0_equals 7 = .ok (.aload_n 1, 1) := by decide +kernel
theorem dJ0_equals_8 : decode cJ0_equals 8 = .ok (.instanceof 53, 3) := by decide +kernel
theorem dJ0_equals_11 : decode cJ0_equals 11 = .ok (.ifCond .eq 11, 3) := by decide +kernel
theorem dJ0_equals_14 : decode cJ0_equals 14 = .ok (.aload_n 1, 1) := by decide +kernel
theorem dJ0_equals_15 : decode cJ0_equals 15 = .ok (.checkcast 53, 3) := by decide +kernel
theorem dJ0_equals_18 : decode cJ0_equals 18 = .ok (.astore_n 2, 1) := by decide +kernel
theorem dJ0_equals_19 : decode cJ0_equals 19 = .ok (.goto 5, 3) := by decide +kernel
theorem dJ0_equals_22 : decode cJ0_equals 22 = .ok (.iconst 0, 1) := by decide +kernel
theorem dJ0_equals_23 : decode cJ0_equals 23 = .ok (.ireturn, 1) := by decide +kernel
theorem dJ0_equals_24 : decode cJ0_equals 24 = .ok (.aload_n 2, 1) := by decide +kernel
theorem dJ0_equals_25 : decode cJ0_equals 25 = .ok (.invokeinterface 78 1, 5) := by decide +kernel
theorem dJ0_equals_30 : decode cJ0_equals 30 = .ok (.aload_n 0, 1) := by decide +kernel
theorem dJ0_equals_31 : decode cJ0_equals 31 = .ok (.invokevirtual 19, 3) := by decide +kernel
theorem dJ0_equals_34 : decode cJ0_equals 34 = .ok (.if_icmp .eq 5, 3) := by decide +kernel
theorem dJ0_equals_37 : decode cJ0_equals 37 = .ok (.iconst 0, 1) := by decide +kernel
theorem dJ0_equals_38 : decode cJ0_equals 38 = .ok (.ireturn, 1) := by decide +kernel
theorem dJ0_equals_39 : decode cJ0_equals 39 = .ok (.aload_n 0, 1) := by decide +kernel
theorem dJ0_equals_40 : decode cJ0_equals 40 = .ok (.invokevirtual 7, 3) := by decide +kernel
theorem dJ0_equals_43 : decode cJ0_equals 43 = .ok (.invokeinterface 20 1, 5) := by decide +kernel
theorem dJ0_equals_48 : decode cJ0_equals 48 = .ok (.astore_n 3, 1) := by decide +kernel
theorem dJ0_equals_49 : decode cJ0_equals 49 = .ok (.aload_n 3, 1) := by decide +kernel
theorem dJ0_equals_50 : decode cJ0_equals 50 = .ok (.invokeinterface 24 1, 5) := by decide +kernel
theorem dJ0_equals_55 : decode cJ0_equals 55 = .ok (.ifCond .eq 82, 3) := by decide +kernel
theorem dJ0_equals_58 : decode cJ0_equals 58 = .ok (.aload_n 3, 1) := by decide +kernel
theorem dJ0_equals_59 : decode cJ0_equals 59 = .ok (.invokeinterface 30 1, 5) := by decide +kernel
theorem dJ0_equals_64 : decode cJ0_equals 64 = .ok (.checkcast 34, 3) := by decide +kernel
theorem dJ0_equals_67 : decode cJ0_equals 67 = .ok (.astore 4, 2) := by decide +kernel
theorem dJ0_equals_69 : decode cJ0_equals 69 = .ok (.aload 4, 2) := by decide +kernel
theorem dJ0_equals_71 : decode cJ0_equals 71 = .ok (.invokeinterface 43 1, 5) := by decide +kernel
theorem dJ0_equals_76 : decode cJ0_equals 76 = .ok (.astore 5, 2) := by decide +kernel
theorem dJ0_equals_78 : decode cJ0_equals 78 = .ok (.aload 4, 2) := by decide +kernel
theorem dJ0_equals_80 : decode cJ0_equals 80 = .ok (.invokeinterface 36 1, 5) := by decide +kernel
theorem dJ0_equals_85 : decode cJ0_equals 85 = .ok (.astore 6, 2) := by decide +kernel
theorem dJ0_equals_87 : decode cJ0_equals 87 = .ok (.aload 6, 2) := by decide +kernel
theorem dJ0_equals_89 : decode cJ0_equals 89 = .ok (.ifnonnull 27, 3) := by decide +kernel
theorem dJ0_equals_92 : decode cJ0_equals 92 = .ok (.aload_n 2, 1) := by decide +kernel
theorem dJ0_equals_93 : decode cJ0_equals 93 = .ok (.aload 5, 2) := by decide +kernel
theorem dJ0_equals_95 : decode cJ0_equals 95 = .ok (.invokeinterface 79 2, 5) := by decide +kernel
theorem dJ0_equals_100 : decode cJ0_equals 100 = .ok (.ifnonnull 14, 3) := by decide +kernel
theorem dJ0_equals_103 : decode cJ0_equals 103 = .ok (.aload_n 2, 1) := by decide +kernel
theorem dJ0_equals_104 : decode cJ0_equals 104 = .ok (.aload 5, 2) := by decide +kernel
theorem dJ0_equals_106 : decode cJ0_equals 106 = .ok (.invokeinterface 83 2, 5) := by decide +kernel
theorem dJ0_equals_111 : decode cJ0_equals 111 = .ok (.ifCond .ne 23, 3) := by decide +kernel
theorem dJ0_equals_114 : decode cJ0_equals 114 = .ok (.iconst 0, 1) := by decide +kernel
theorem dJ0_equals_115 : decode cJ0_equals 115 = .ok (.ireturn, 1) := by decide +kernel
theorem dJ0_equals_116 : decode cJ0_equals 116 = .ok (.aload 6, 2) := by decide +kernel
theorem dJ0_equals_118 : decode cJ0_equals 118 = .ok (.aload_n 2, 1) := by decide +kernel
theorem dJ0_equals_119 : decode cJ0_equals 119 = .ok (.aload 5, 2) := by decide +kernel
theorem dJ0_equals_121 : decode cJ0_equals 121 = .ok (.invokeinterface 79 2, 5) := by decide +kernel
theorem dJ0_equals_126 : decode cJ0_equals 126 = .ok (.invokevirtual 39, 3) := by decide +kernel
theorem dJ0_equals_129 : decode cJ0_equals 129 = .ok (.ifCond .ne 5, 3) := by decide +kernel
theorem dJ0_equals_132 : decode cJ0_equals 132 = .ok (.iconst 0, 1) := by decide +kernel
theorem dJ0_equals_133 : decode cJ0_equals 133 = .ok (.ireturn, 1) := by decide +kernel
theorem dJ0_equals_134 : decode cJ0_equals 134 = .ok (.goto (-85), 3) := by decide +kernel
theorem dJ0_equals_137 : decode cJ0_equals 137 = .ok (.goto 6, 3) := by decide +kernel
theorem dJ0_equals_140 : decode cJ0_equals 140 = .ok (.astore_n 3, 1) := by decide +kernel
theorem dJ0_equals_141 : decode cJ0_equals 141 = .ok (.iconst 0, 1) := by decide +kernel
theorem dJ0_equals_142 : decode cJ0_equals 142 = .ok (.ireturn, 1) := by decide +kernel
theorem dJ0_equals_143 : decode cJ0_equals 143 = .ok (.iconst 1, 1) := by decide +kernel
theorem dJ0_equals_144 : decode cJ0_equals 144 = .ok (.ireturn, 1) := by decide +kernel
theorem q10 : (Jvm.Cond.initialized "java/util/AbstractMap") ∈ lw_all := lw_g (lw_at lw_m1 2 rfl) rfl
theorem q53 : (Jvm.Cond.instanceMethod ({ cls := "java/util/AbstractMap", name := "<init>", desc := "()V" } : Jvm.MethodName)) ∈ lw_all := lw_g (lw_at lw_m1 45 rfl) rfl
theorem q54 : (Jvm.Cond.code ({ cls := "java/util/AbstractMap", name := "<init>", desc := "()V" } : Jvm.MethodName) prog_21_method_1_code (1 : Nat) (Option.none : Option Jvm.ClassFile.FieldType)) ∈ lw_all := lw_g (lw_at lw_m1 46 rfl) rfl
theorem q55 : (Jvm.Cond.methodLink "java/util/AbstractMap" (1 : Nat) ({ cls := "java/lang/Object", name := "<init>", desc := "()V" } : Jvm.MethodName)) ∈ lw_all := lw_g (lw_at lw_m1 47 rfl) rfl
theorem q93 : (Jvm.Cond.soleField "java/util/AbstractMap" "keySet") ∈ lw_all := lw_g (lw_at lw_m1 85 rfl) rfl
theorem q95 : (Jvm.Cond.soleField "java/util/AbstractMap" "values") ∈ lw_all := lw_g (lw_at lw_m1 87 rfl) rfl
theorem q1044 : (Jvm.Cond.declares ({ cls := "java/util/AbstractMap", name := "equals", desc := "(Ljava/lang/Object;)Z" } : Jvm.MethodName)) ∈ lw_tbl := lw_at lw_m5 76 rfl
theorem q1047 : (Jvm.Cond.instanceMethod ({ cls := "java/util/AbstractMap", name := "equals", desc := "(Ljava/lang/Object;)Z" } : Jvm.MethodName)) ∈ lw_all := lw_g (lw_at lw_m5 79 rfl) rfl
theorem q1048 : (Jvm.Cond.codeWith ({ cls := "java/util/AbstractMap", name := "equals", desc := "(Ljava/lang/Object;)Z" } : Jvm.MethodName) prog_21_method_14_code (7 : Nat) (Option.some Jvm.ClassFile.FieldType.boolean) [((39 : Nat), (115 : Nat), (140 : Nat), (86 : Nat)), ((39 : Nat), (115 : Nat), (140 : Nat), (88 : Nat)), ((116 : Nat), (133 : Nat), (140 : Nat), (86 : Nat)), ((116 : Nat), (133 : Nat), (140 : Nat), (88 : Nat)), ((134 : Nat), (137 : Nat), (140 : Nat), (86 : Nat)), ((134 : Nat), (137 : Nat), (140 : Nat), (88 : Nat))]) ∈ lw_all := lw_g (lw_at lw_m5 80 rfl) rfl
theorem q1049 : (Jvm.Cond.classLink "java/util/AbstractMap" (53 : Nat) "java/util/Map") ∈ lw_all := lw_g (lw_at lw_m5 81 rfl) rfl
theorem q1050 : (Jvm.Cond.interfaceEntry "java/util/AbstractMap" (78 : Nat)) ∈ lw_tbl := lw_at lw_m5 82 rfl
theorem q1051 : (Jvm.Cond.methodLink "java/util/AbstractMap" (78 : Nat) ({ cls := "java/util/Map", name := "size", desc := "()I" } : Jvm.MethodName)) ∈ lw_all := lw_g (lw_at lw_m5 83 rfl) rfl
theorem q1052 : (Jvm.Cond.methodLink "java/util/AbstractMap" (19 : Nat) ({ cls := "java/util/AbstractMap", name := "size", desc := "()I" } : Jvm.MethodName)) ∈ lw_all := lw_g (lw_at lw_m5 84 rfl) rfl
theorem q1053 : (Jvm.Cond.instanceMethod ({ cls := "java/util/AbstractMap", name := "size", desc := "()I" } : Jvm.MethodName)) ∈ lw_all := lw_g (lw_at lw_m5 85 rfl) rfl
theorem q1054 : (Jvm.Cond.sameMethod "java/util/AbstractMap" "java/util/AbstractMap" "size" "()I") ∈ lw_all := lw_g (lw_at lw_m5 86 rfl) rfl
theorem q1057 : (Jvm.Cond.declares ({ cls := "java/util/AbstractMap", name := "size", desc := "()I" } : Jvm.MethodName)) ∈ lw_tbl := lw_at lw_m5 89 rfl
theorem q1058 : (Jvm.Cond.methodLink "java/util/AbstractMap" (7 : Nat) ({ cls := "java/util/AbstractMap", name := "entrySet", desc := "()Ljava/util/Set;" } : Jvm.MethodName)) ∈ lw_all := lw_g (lw_at lw_m5 90 rfl) rfl
theorem q1059 : (Jvm.Cond.declares ({ cls := "java/util/AbstractMap", name := "entrySet", desc := "()Ljava/util/Set;" } : Jvm.MethodName)) ∈ lw_tbl := lw_at lw_m5 91 rfl
theorem q1060 : (Jvm.Cond.sameMethod "java/util/AbstractMap" "java/util/AbstractMap" "entrySet" "()Ljava/util/Set;") ∈ lw_all := lw_g (lw_at lw_m5 92 rfl) rfl
theorem q1063 : (Jvm.Cond.interfaceEntry "java/util/AbstractMap" (20 : Nat)) ∈ lw_tbl := lw_at lw_m5 95 rfl
theorem q1064 : (Jvm.Cond.methodLink "java/util/AbstractMap" (20 : Nat) ({ cls := "java/util/Set", name := "iterator", desc := "()Ljava/util/Iterator;" } : Jvm.MethodName)) ∈ lw_all := lw_g (lw_at lw_m5 96 rfl) rfl
theorem q1065 : (Jvm.Cond.interfaceEntry "java/util/AbstractMap" (24 : Nat)) ∈ lw_tbl := lw_at lw_m5 97 rfl
theorem q1066 : (Jvm.Cond.methodLink "java/util/AbstractMap" (24 : Nat) ({ cls := "java/util/Iterator", name := "hasNext", desc := "()Z" } : Jvm.MethodName)) ∈ lw_all := lw_g (lw_at lw_m5 98 rfl) rfl
theorem q1067 : (Jvm.Cond.interfaceEntry "java/util/AbstractMap" (30 : Nat)) ∈ lw_tbl := lw_at lw_m5 99 rfl
theorem q1068 : (Jvm.Cond.methodLink "java/util/AbstractMap" (30 : Nat) ({ cls := "java/util/Iterator", name := "next", desc := "()Ljava/lang/Object;" } : Jvm.MethodName)) ∈ lw_all := lw_g (lw_at lw_m5 100 rfl) rfl
theorem q1069 : (Jvm.Cond.classLink "java/util/AbstractMap" (34 : Nat) "java/util/Map$Entry") ∈ lw_all := lw_g (lw_at lw_m5 101 rfl) rfl
theorem q1070 : (Jvm.Cond.interfaceEntry "java/util/AbstractMap" (43 : Nat)) ∈ lw_tbl := lw_at lw_m5 102 rfl
theorem q1071 : (Jvm.Cond.methodLink "java/util/AbstractMap" (43 : Nat) ({ cls := "java/util/Map$Entry", name := "getKey", desc := "()Ljava/lang/Object;" } : Jvm.MethodName)) ∈ lw_all := lw_g (lw_at lw_m5 103 rfl) rfl
theorem q1072 : (Jvm.Cond.interfaceEntry "java/util/AbstractMap" (36 : Nat)) ∈ lw_tbl := lw_at lw_m5 104 rfl
theorem q1073 : (Jvm.Cond.methodLink "java/util/AbstractMap" (36 : Nat) ({ cls := "java/util/Map$Entry", name := "getValue", desc := "()Ljava/lang/Object;" } : Jvm.MethodName)) ∈ lw_all := lw_g (lw_at lw_m5 105 rfl) rfl
theorem q1074 : (Jvm.Cond.interfaceEntry "java/util/AbstractMap" (79 : Nat)) ∈ lw_tbl := lw_at lw_m5 106 rfl
theorem q1075 : (Jvm.Cond.methodLink "java/util/AbstractMap" (79 : Nat) ({ cls := "java/util/Map", name := "get", desc := "(Ljava/lang/Object;)Ljava/lang/Object;" } : Jvm.MethodName)) ∈ lw_all := lw_g (lw_at lw_m5 107 rfl) rfl
theorem q1084 : (Jvm.Cond.interfaceEntry "java/util/AbstractMap" (83 : Nat)) ∈ lw_tbl := lw_at lw_m5 116 rfl
theorem q1085 : (Jvm.Cond.methodLink "java/util/AbstractMap" (83 : Nat) ({ cls := "java/util/Map", name := "containsKey", desc := "(Ljava/lang/Object;)Z" } : Jvm.MethodName)) ∈ lw_all := lw_g (lw_at lw_m5 117 rfl) rfl
theorem q1093 : (Jvm.Cond.methodLink "java/util/AbstractMap" (39 : Nat) ({ cls := "java/lang/Object", name := "equals", desc := "(Ljava/lang/Object;)Z" } : Jvm.MethodName)) ∈ lw_all := lw_g (lw_at lw_m5 125 rfl) rfl
set_option maxRecDepth 100000
def RJ3 : String := "java/lang/Number"
abbrev cJ3_init : ByteArray := prog_14_method_1_code
def yJ3_init : MethodName := ⟨RJ3, "<init>", "()V"⟩
theorem dJ3_init_0 : decode cJ3_init 0 = .ok (.aload_n 0, 1) := by decide +kernel
theorem dJ3_init_1 : decode cJ3_init 1 = .ok (.invokespecial 1, 3) := by decide +kernel
theorem dJ3_init_4 : decode cJ3_init 4 = .ok (.return_, 1) := by decide +kernel
theorem q13 : (Jvm.Cond.initialized "java/lang/Number") ∈ lw_all := lw_g (lw_at lw_m1 5 rfl) rfl
theorem q176 : (Jvm.Cond.instanceMethod ({ cls := "java/lang/Number", name := "<init>", desc := "()V" } : Jvm.MethodName)) ∈ lw_all := lw_g (lw_at lw_m1 168 rfl) rfl
theorem q177 : (Jvm.Cond.code ({ cls := "java/lang/Number", name := "<init>", desc := "()V" } : Jvm.MethodName) prog_14_method_1_code (1 : Nat) (Option.none : Option Jvm.ClassFile.FieldType)) ∈ lw_all := lw_g (lw_at lw_m1 169 rfl) rfl
theorem q178 : (Jvm.Cond.methodLink "java/lang/Number" (1 : Nat) ({ cls := "java/lang/Object", name := "<init>", desc := "()V" } : Jvm.MethodName)) ∈ lw_all := lw_g (lw_at lw_m1 170 rfl) rfl
set_option maxRecDepth 100000
def RJ4 : String := "java/lang/Float"
abbrev cJ4_isNaN : ByteArray := prog_9_method_6_code
def yJ4_isNaN : MethodName := ⟨RJ4, "isNaN", "(F)Z"⟩
theorem dJ4_isNaN_0 : decode cJ4_isNaN 0 = .ok (.fload_n 0, 1) := by decide +kernel
theorem dJ4_isNaN_1 : decode cJ4_isNaN 1 = .ok (.fload_n 0, 1) := by decide +kernel
theorem dJ4_isNaN_2 : decode cJ4_isNaN 2 = .ok (.fcmp .l, 1) := by decide +kernel
theorem dJ4_isNaN_3 : decode cJ4_isNaN 3 = .ok (.ifCond .eq 7, 3) := by decide +kernel
theorem dJ4_isNaN_6 : decode cJ4_isNaN 6 = .ok (.iconst 1, 1) := by decide +kernel
theorem dJ4_isNaN_7 : decode cJ4_isNaN 7 = .ok (.goto 4, 3) := by decide +kernel
theorem dJ4_isNaN_10 : decode cJ4_isNaN 10 = .ok (.iconst 0, 1) := by decide +kernel
theorem dJ4_isNaN_11 : decode cJ4_isNaN 11 = .ok (.ireturn, 1) := by decide +kernel
theorem q14 : (Jvm.Cond.initialized "java/lang/Float") ∈ lw_all := lw_g (lw_at lw_m1 6 rfl) rfl
theorem q135 : (Jvm.Cond.static ({ cls := "java/lang/Float", name := "isNaN", desc := "(F)Z" } : Jvm.MethodName)) ∈ lw_all := lw_g (lw_at lw_m1 127 rfl) rfl
theorem q136 : (Jvm.Cond.code ({ cls := "java/lang/Float", name := "isNaN", desc := "(F)Z" } : Jvm.MethodName) prog_9_method_6_code (1 : Nat) (Option.some Jvm.ClassFile.FieldType.boolean)) ∈ lw_all := lw_g (lw_at lw_m1 128 rfl) rfl
set_option maxRecDepth 100000
def RJ5 : String := "java/lang/Integer"
def TJ5 : u_T := fun k => match k with
  | _ => ("java/lang/Integer", "value", "I", true)
def tyJ5 : Nat → FieldType := fun k => match k with
  | _ => .int
abbrev wsJ50 : List Cond := u_ws RJ5 TJ5 1
theorem nmJ5 : ∀ a, a < 1 → ∀ b, b < 1 → a ≠ b → (TJ5 a).2.1 ≠ (TJ5 b).2.1 := by decide +kernel
theorem tyJ5_ok : ∀ k, k < 1 → parseFieldDescriptor (TJ5 k).2.2.1 = some (tyJ5 k) := by decide +kernel
abbrev cJ5_numberOfLeadingZeros : ByteArray := prog_10_method_47_code
def yJ5_numberOfLeadingZeros : MethodName := ⟨RJ5, "numberOfLeadingZeros", "(I)I"⟩
theorem dJ5_numberOfLeadingZeros_0 : decode cJ5_numberOfLeadingZeros 0 = .ok (.iload_n 0, 1) := by decide +kernel
theorem dJ5_numberOfLeadingZeros_1 : decode cJ5_numberOfLeadingZeros 1 = .ok (.ifCond .gt 14, 3) := by decide +kernel
theorem dJ5_numberOfLeadingZeros_4 : decode cJ5_numberOfLeadingZeros 4 = .ok (.iload_n 0, 1) := by decide +kernel
theorem dJ5_numberOfLeadingZeros_5 : decode cJ5_numberOfLeadingZeros 5 = .ok (.ifCond .ne 8, 3) := by decide +kernel
theorem dJ5_numberOfLeadingZeros_8 : decode cJ5_numberOfLeadingZeros 8 = .ok (.bipush 32, 2) := by decide +kernel
theorem dJ5_numberOfLeadingZeros_10 : decode cJ5_numberOfLeadingZeros 10 = .ok (.goto 4, 3) := by decide +kernel
theorem dJ5_numberOfLeadingZeros_13 : decode cJ5_numberOfLeadingZeros 13 = .ok (.iconst 0, 1) := by decide +kernel
theorem dJ5_numberOfLeadingZeros_14 : decode cJ5_numberOfLeadingZeros 14 = .ok (.ireturn, 1) := by decide +kernel
theorem dJ5_numberOfLeadingZeros_15 : decode cJ5_numberOfLeadingZeros 15 = .ok (.bipush 31, 2) := by decide +kernel
theorem dJ5_numberOfLeadingZeros_17 : decode cJ5_numberOfLeadingZeros 17 = .ok (.istore_n 1, 1) := by decide +kernel
theorem dJ5_numberOfLeadingZeros_18 : decode cJ5_numberOfLeadingZeros 18 = .ok (.iload_n 0, 1) := by decide +kernel
theorem dJ5_numberOfLeadingZeros_19 : decode cJ5_numberOfLeadingZeros 19 = .ok (.ldc_w 264, 3) := by decide +kernel
theorem dJ5_numberOfLeadingZeros_22 : decode cJ5_numberOfLeadingZeros 22 = .ok (.if_icmp .lt 11, 3) := by decide +kernel
theorem dJ5_numberOfLeadingZeros_25 : decode cJ5_numberOfLeadingZeros 25 = .ok (.iinc 1 (-16), 3) := by decide +kernel
theorem dJ5_numberOfLeadingZeros_28 : decode cJ5_numberOfLeadingZeros 28 = .ok (.iload_n 0, 1) := by decide +kernel
theorem dJ5_numberOfLeadingZeros_29 : decode cJ5_numberOfLeadingZeros 29 = .ok (.bipush 16, 2) := by decide +kernel
theorem dJ5_numberOfLeadingZeros_31 : decode cJ5_numberOfLeadingZeros 31 = .ok (.iushr, 1) := by decide +kernel
theorem dJ5_numberOfLeadingZeros_32 : decode cJ5_numberOfLeadingZeros 32 = .ok (.istore_n 0, 1) := by decide +kernel
theorem dJ5_numberOfLeadingZeros_33 : decode cJ5_numberOfLeadingZeros 33 = .ok (.iload_n 0, 1) := by decide +kernel
theorem dJ5_numberOfLeadingZeros_34 : decode cJ5_numberOfLeadingZeros 34 = .ok (.sipush 256, 3) := by decide +kernel
theorem dJ5_numberOfLeadingZeros_37 : decode cJ5_numberOfLeadingZeros 37 = .ok (.if_icmp .lt 11, 3) := by decide +kernel
theorem dJ5_numberOfLeadingZeros_40 : decode cJ5_numberOfLeadingZeros 40 = .ok (.iinc 1 (-8), 3) := by decide +kernel
theorem dJ5_numberOfLeadingZeros_43 : decode cJ5_numberOfLeadingZeros 43 = .ok (.iload_n 0, 1) := by decide +kernel
theorem dJ5_numberOfLeadingZeros_44 : decode cJ5_numberOfLeadingZeros 44 = .ok (.bipush 8, 2) := by decide +kernel
theorem dJ5_numberOfLeadingZeros_46 : decode cJ5_numberOfLeadingZeros 46 = .ok (.iushr, 1) := by decide +kernel
theorem dJ5_numberOfLeadingZeros_47 : decode cJ5_numberOfLeadingZeros 47 = .ok (.istore_n 0, 1) := by decide +kernel
theorem dJ5_numberOfLeadingZeros_48 : decode cJ5_numberOfLeadingZeros 48 = .ok (.iload_n 0, 1) := by decide +kernel
theorem dJ5_numberOfLeadingZeros_49 : decode cJ5_numberOfLeadingZeros 49 = .ok (.bipush 16, 2) := by decide +kernel
theorem dJ5_numberOfLeadingZeros_51 : decode cJ5_numberOfLeadingZeros 51 = .ok (.if_icmp .lt 10, 3) := by decide +kernel
theorem dJ5_numberOfLeadingZeros_54 : decode cJ5_numberOfLeadingZeros 54 = .ok (.iinc 1 (-4), 3) := by decide +kernel
theorem dJ5_numberOfLeadingZeros_57 : decode cJ5_numberOfLeadingZeros 57 = .ok (.iload_n 0, 1) := by decide +kernel
theorem dJ5_numberOfLeadingZeros_58 : decode cJ5_numberOfLeadingZeros 58 = .ok (.iconst 4, 1) := by decide +kernel
theorem dJ5_numberOfLeadingZeros_59 : decode cJ5_numberOfLeadingZeros 59 = .ok (.iushr, 1) := by decide +kernel
theorem dJ5_numberOfLeadingZeros_60 : decode cJ5_numberOfLeadingZeros 60 = .ok (.istore_n 0, 1) := by decide +kernel
theorem dJ5_numberOfLeadingZeros_61 : decode cJ5_numberOfLeadingZeros 61 = .ok (.iload_n 0, 1) := by decide +kernel
theorem dJ5_numberOfLeadingZeros_62 : decode cJ5_numberOfLeadingZeros 62 = .ok (.iconst 4, 1) := by decide +kernel
theorem dJ5_numberOfLeadingZeros_63 : decode cJ5_numberOfLeadingZeros 63 = .ok (.if_icmp .lt 10, 3) := by decide +kernel
theorem dJ5_numberOfLeadingZeros_66 : decode cJ5_numberOfLeadingZeros 66 = .ok (.iinc 1 (-2), 3) := by decide +kernel
theorem dJ5_numberOfLeadingZeros_69 : decode cJ5_numberOfLeadingZeros 69 = .ok (.iload_n 0, 1) := by decide +kernel
theorem dJ5_numberOfLeadingZeros_70 : decode cJ5_numberOfLeadingZeros 70 = .ok (.iconst 2, 1) := by decide +kernel
theorem dJ5_numberOfLeadingZeros_71 : decode cJ5_numberOfLeadingZeros 71 = .ok (.iushr, 1) := by decide +kernel
theorem dJ5_numberOfLeadingZeros_72 : decode cJ5_numberOfLeadingZeros 72 = .ok (.istore_n 0, 1) := by decide +kernel
theorem dJ5_numberOfLeadingZeros_73 : decode cJ5_numberOfLeadingZeros 73 = .ok (.iload_n 1, 1) := by decide +kernel
theorem dJ5_numberOfLeadingZeros_74 : decode cJ5_numberOfLeadingZeros 74 = .ok (.iload_n 0, 1) := by decide +kernel
theorem dJ5_numberOfLeadingZeros_75 : decode cJ5_numberOfLeadingZeros 75 = .ok (.iconst 1, 1) := by decide +kernel
theorem dJ5_numberOfLeadingZeros_76 : decode cJ5_numberOfLeadingZeros 76 = .ok (.iushr, 1) := by decide +kernel
theorem dJ5_numberOfLeadingZeros_77 : decode cJ5_numberOfLeadingZeros 77 = .ok (.isub, 1) := by decide +kernel
theorem dJ5_numberOfLeadingZeros_78 : decode cJ5_numberOfLeadingZeros 78 = .ok (.ireturn, 1) := by decide +kernel
abbrev cJ5_valueOf : ByteArray := prog_10_method_22_code
def yJ5_valueOf : MethodName := ⟨RJ5, "valueOf", "(I)Ljava/lang/Integer;"⟩
theorem dJ5_valueOf_0 : decode cJ5_valueOf 0 = .ok (.iload_n 0, 1) := by decide +kernel
theorem dJ5_valueOf_1 : decode cJ5_valueOf 1 = .ok (.bipush (-128), 2) := by decide +kernel
theorem dJ5_valueOf_3 : decode cJ5_valueOf 3 = .ok (.if_icmp .lt 20, 3) := by decide +kernel
theorem dJ5_valueOf_6 : decode cJ5_valueOf 6 = .ok (.iload_n 0, 1) := by decide +kernel
theorem dJ5_valueOf_7 : decode cJ5_valueOf 7 = .ok (.getstatic 191, 3) := by decide +kernel
theorem dJ5_valueOf_10 : decode cJ5_valueOf 10 = .ok (.if_icmp .gt 13, 3) := by decide +kernel
theorem dJ5_valueOf_13 : decode cJ5_valueOf 13 = .ok (.getstatic 195, 3) := by decide +kernel
theorem dJ5_valueOf_16 : decode cJ5_valueOf 16 = .ok (.iload_n 0, 1) := by decide +kernel
theorem dJ5_valueOf_17 : decode cJ5_valueOf 17 = .ok (.sipush 128, 3) := by decide +kernel
theorem dJ5_valueOf_20 : decode cJ5_valueOf 20 = .ok (.iadd, 1) := by decide +kernel
theorem dJ5_valueOf_21 : decode cJ5_valueOf 21 = .ok (.aaload, 1) := by decide +kernel
theorem dJ5_valueOf_22 : decode cJ5_valueOf 22 = .ok (.areturn, 1) := by decide +kernel
theorem dJ5_valueOf_23 : decode cJ5_valueOf 23 = .ok (.new 1, 3) := by decide +kernel
theorem dJ5_valueOf_26 : decode cJ5_valueOf 26 = .ok (.dup, 1) := by decide +kernel
theorem dJ5_valueOf_27 : decode cJ5_valueOf 27 = .ok (.iload_n 0, 1) := by decide +kernel
theorem dJ5_valueOf_28 : decode cJ5_valueOf 28 = .ok (.invokespecial 199, 3) := by decide +kernel
theorem dJ5_valueOf_31 : decode cJ5_valueOf 31 = .ok (.areturn, 1) := by decide +kernel
abbrev cJ5_init : ByteArray := prog_10_method_23_code
def yJ5_init : MethodName := ⟨RJ5, "<init>", "(I)V"⟩
theorem dJ5_init_0 : decode cJ5_init 0 = .ok (.aload_n 0, 1) := by decide +kernel
theorem dJ5_init_1 : decode cJ5_init 1 = .ok (.invokespecial 202, 3) := by decide +kernel
theorem dJ5_init_4 : decode cJ5_init 4 = .ok (.aload_n 0, 1) := by decide +kernel
theorem dJ5_init_5 : decode cJ5_init 5 = .ok (.iload_n 1, 1) := by decide +kernel
theorem dJ5_init_6 : decode cJ5_init 6 = .ok (.putfield 205, 3) := by decide +kernel
theorem dJ5_init_9 : decode cJ5_init 9 = .ok (.return_, 1) := by decide +kernel
abbrev cJ5_hashCode : ByteArray := prog_10_method_32_code
def yJ5_hashCode : MethodName := ⟨RJ5, "hashCode", "()I"⟩
theorem dJ5_hashCode_0 : decode cJ5_hashCode 0 = .ok (.aload_n 0, 1) := by decide +kernel
theorem dJ5_hashCode_1 : decode cJ5_hashCode 1 = .ok (.getfield 205, 3) := by decide +kernel
theorem dJ5_hashCode_4 : decode cJ5_hashCode 4 = .ok (.invokestatic 208, 3) := by decide +kernel
theorem dJ5_hashCode_7 : decode cJ5_hashCode 7 = .ok (.ireturn, 1) := by decide +kernel
abbrev cJ5_hashCode_2 : ByteArray := prog_10_method_33_code
def yJ5_hashCode_2 : MethodName := ⟨RJ5, "hashCode", "(I)I"⟩
theorem dJ5_hashCode_2_0 : decode cJ5_hashCode_2 0 = .ok (.iload_n 0, 1) := by decide +kernel
theorem dJ5_hashCode_2_1 : decode cJ5_hashCode_2 1 = .ok (.ireturn, 1) := by decide +kernel
abbrev cJ5_compareTo : ByteArray := prog_10_method_63_code
def yJ5_compareTo : MethodName := ⟨RJ5, "compareTo", "(Ljava/lang/Object;)I"⟩
theorem dJ5_compareTo_0 : decode cJ5_compareTo 0 = .ok (.aload_n 0, 1) := by decide +kernel
theorem dJ5_compareTo_1 : decode cJ5_compareTo 1 = .ok (.aload_n 1, 1) := by decide +kernel
theorem dJ5_compareTo_2 : decode cJ5_compareTo 2 = .ok (.checkcast 1, 3) := by decide +kernel
theorem dJ5_compareTo_5 : decode cJ5_compareTo 5 = .ok (.invokevirtual 284, 3) := by decide +kernel
theorem dJ5_compareTo_8 : decode cJ5_compareTo 8 = .ok (.ireturn, 1) := by decide +kernel
abbrev cJ5_compareTo_2 : ByteArray := prog_10_method_39_code
def yJ5_compareTo_2 : MethodName := ⟨RJ5, "compareTo", "(Ljava/lang/Integer;)I"⟩
theorem dJ5_compareTo_2_0 : decode cJ5_compareTo_2 0 = .ok (.aload_n 0, 1) := by decide +kernel
theorem dJ5_compareTo_2_1 : decode cJ5_compareTo_2 1 = .ok (.getfield 205, 3) := by decide +kernel
theorem dJ5_compareTo_2_4 : decode cJ5_compareTo_2 4 = .ok (.aload_n 1, 1) := by decide +kernel
theorem dJ5_compareTo_2_5 : decode cJ5_compareTo_2 5 = .ok (.getfield 205, 3) := by decide +kernel
theorem dJ5_compareTo_2_8 : decode cJ5_compareTo_2 8 = .ok (.invokestatic 259, 3) := by decide +kernel
theorem dJ5_compareTo_2_11 : decode cJ5_compareTo_2 11 = .ok (.ireturn, 1) := by decide +kernel
abbrev cJ5_compare : ByteArray := prog_10_method_40_code
def yJ5_compare : MethodName := ⟨RJ5, "compare", "(II)I"⟩
theorem dJ5_compare_0 : decode cJ5_compare 0 = .ok (.iload_n 0, 1) := by decide +kernel
theorem dJ5_compare_1 : decode cJ5_compare 1 = .ok (.iload_n 1, 1) := by decide +kernel
theorem dJ5_compare_2 : decode cJ5_compare 2 = .ok (.if_icmp .ge 7, 3) := by decide +kernel
theorem dJ5_compare_5 : decode cJ5_compare 5 = .ok (.iconst (-1), 1) := by decide +kernel
theorem dJ5_compare_6 : decode cJ5_compare 6 = .ok (.goto 13, 3) := by decide +kernel
theorem dJ5_compare_9 : decode cJ5_compare 9 = .ok (.iload_n 0, 1) := by decide +kernel
theorem dJ5_compare_10 : decode cJ5_compare 10 = .ok (.iload_n 1, 1) := by decide +kernel
theorem dJ5_compare_11 : decode cJ5_compare 11 = .ok (.if_icmp .ne 7, 3) := by decide +kernel
theorem dJ5_compare_14 : decode cJ5_compare 14 = .ok (.iconst 0, 1) := by decide +kernel
theorem dJ5_compare_15 : decode cJ5_compare 15 = .ok (.goto 4, 3) := by decide +kernel
theorem dJ5_compare_18 : decode cJ5_compare 18 = .ok (.iconst 1, 1) := by decide +kernel
theorem dJ5_compare_19 : decode cJ5_compare 19 = .ok (.ireturn, 1) := by decide +kernel
abbrev cJ5_equals : ByteArray := prog_10_method_34_code
def yJ5_equals : MethodName := ⟨RJ5, "equals", "(Ljava/lang/Object;)Z"⟩
theorem dJ5_equals_0 : decode cJ5_equals 0 = .ok (.aload_n 1, 1) := by decide +kernel
theorem dJ5_equals_1 : decode cJ5_equals 1 = .ok (.instanceof 1, 3) := by decide +kernel
theorem dJ5_equals_4 : decode cJ5_equals 4 = .ok (.ifCond .eq 23, 3) := by decide +kernel
theorem dJ5_equals_7 : decode cJ5_equals 7 = .ok (.aload_n 0, 1) := by decide +kernel
theorem dJ5_equals_8 : decode cJ5_equals 8 = .ok (.getfield 205, 3) := by decide +kernel
theorem dJ5_equals_11 : decode cJ5_equals 11 = .ok (.aload_n 1, 1) := by decide +kernel
theorem dJ5_equals_12 : decode cJ5_equals 12 = .ok (.checkcast 1, 3) := by decide +kernel
theorem dJ5_equals_15 : decode cJ5_equals 15 = .ok (.invokevirtual 211, 3) := by decide +kernel
theorem dJ5_equals_18 : decode cJ5_equals 18 = .ok (.if_icmp .ne 7, 3) := by decide +kernel
theorem dJ5_equals_21 : decode cJ5_equals 21 = .ok (.iconst 1, 1) := by decide +kernel
theorem dJ5_equals_22 : decode cJ5_equals 22 = .ok (.goto 4, 3) := by decide +kernel
theorem dJ5_equals_25 : decode cJ5_equals 25 = .ok (.iconst 0, 1) := by decide +kernel
theorem dJ5_equals_26 : decode cJ5_equals 26 = .ok (.ireturn, 1) := by decide +kernel
theorem dJ5_equals_27 : decode cJ5_equals 27 = .ok (.iconst 0, 1) := by decide +kernel
theorem dJ5_equals_28 : decode cJ5_equals 28 = .ok (.ireturn, 1) := by decide +kernel
abbrev cJ5_intValue : ByteArray := prog_10_method_27_code
def yJ5_intValue : MethodName := ⟨RJ5, "intValue", "()I"⟩
theorem dJ5_intValue_0 : decode cJ5_intValue 0 = .ok (.aload_n 0, 1) := by decide +kernel
theorem dJ5_intValue_1 : decode cJ5_intValue 1 = .ok (.getfield 205, 3) := by decide +kernel
theorem dJ5_intValue_4 : decode cJ5_intValue 4 = .ok (.ireturn, 1) := by decide +kernel
abbrev cJ5_longValue : ByteArray := prog_10_method_28_code
def yJ5_longValue : MethodName := ⟨RJ5, "longValue", "()J"⟩
theorem dJ5_longValue_0 : decode cJ5_longValue 0 = .ok (.aload_n 0, 1) := by decide +kernel
theorem dJ5_longValue_1 : decode cJ5_longValue 1 = .ok (.getfield 205, 3) := by decide +kernel
theorem dJ5_longValue_4 : decode cJ5_longValue 4 = .ok (.i2l, 1) := by decide +kernel
theorem dJ5_longValue_5 : decode cJ5_longValue 5 = .ok (.lreturn, 1) := by decide +kernel
theorem q15 : (Jvm.Cond.initialized "java/lang/Integer") ∈ lw_all := lw_g (lw_at lw_m1 7 rfl) rfl
theorem q141 : (Jvm.Cond.static ({ cls := "java/lang/Integer", name := "numberOfLeadingZeros", desc := "(I)I" } : Jvm.MethodName)) ∈ lw_all := lw_g (lw_at lw_m1 133 rfl) rfl
theorem q142 : (Jvm.Cond.code ({ cls := "java/lang/Integer", name := "numberOfLeadingZeros", desc := "(I)I" } : Jvm.MethodName) prog_10_method_47_code (2 : Nat) (Option.some Jvm.ClassFile.FieldType.int)) ∈ lw_all := lw_g (lw_at lw_m1 134 rfl) rfl
theorem q143 : (Jvm.Cond.constant "java/lang/Integer" (264 : Nat) (65536 : Int32)) ∈ lw_all := lw_g (lw_at lw_m1 135 rfl) rfl
theorem q164 : (Jvm.Cond.static ({ cls := "java/lang/Integer", name := "valueOf", desc := "(I)Ljava/lang/Integer;" } : Jvm.MethodName)) ∈ lw_all := lw_g (lw_at lw_m1 156 rfl) rfl
theorem q165 : (Jvm.Cond.code ({ cls := "java/lang/Integer", name := "valueOf", desc := "(I)Ljava/lang/Integer;" } : Jvm.MethodName) prog_10_method_22_code (1 : Nat) (Option.some (Jvm.ClassFile.FieldType.object "java/lang/Integer"))) ∈ lw_all := lw_g (lw_at lw_m1 157 rfl) rfl
theorem q166 : (Jvm.Cond.fieldLink "java/lang/Integer" (191 : Nat) "java/lang/Integer$IntegerCache" "high" "I") ∈ lw_all := lw_g (lw_at lw_m1 158 rfl) rfl
theorem q168 : (Jvm.Cond.fieldLink "java/lang/Integer" (195 : Nat) "java/lang/Integer$IntegerCache" "cache" "[Ljava/lang/Integer;") ∈ lw_all := lw_g (lw_at lw_m1 160 rfl) rfl
theorem q170 : (Jvm.Cond.classLink "java/lang/Integer" (1 : Nat) "java/lang/Integer") ∈ lw_all := lw_g (lw_at lw_m1 162 rfl) rfl
theorem q171 : (Jvm.Cond.instantiable "java/lang/Integer" (1 : Nat)) ∈ lw_all := lw_g (lw_at lw_m1 163 rfl) rfl
theorem q172 : (Jvm.Cond.methodLink "java/lang/Integer" (199 : Nat) ({ cls := "java/lang/Integer", name := "<init>", desc := "(I)V" } : Jvm.MethodName)) ∈ lw_all := lw_g (lw_at lw_m1 164 rfl) rfl
theorem q173 : (Jvm.Cond.instanceMethod ({ cls := "java/lang/Integer", name := "<init>", desc := "(I)V" } : Jvm.MethodName)) ∈ lw_all := lw_g (lw_at lw_m1 165 rfl) rfl
theorem q174 : (Jvm.Cond.code ({ cls := "java/lang/Integer", name := "<init>", desc := "(I)V" } : Jvm.MethodName) prog_10_method_23_code (2 : Nat) (Option.none : Option Jvm.ClassFile.FieldType)) ∈ lw_all := lw_g (lw_at lw_m1 166 rfl) rfl
theorem q175 : (Jvm.Cond.methodLink "java/lang/Integer" (202 : Nat) ({ cls := "java/lang/Number", name := "<init>", desc := "()V" } : Jvm.MethodName)) ∈ lw_all := lw_g (lw_at lw_m1 167 rfl) rfl
theorem q179 : (Jvm.Cond.fieldLink "java/lang/Integer" (205 : Nat) "java/lang/Integer" "value" "I") ∈ lw_all := lw_g (lw_at lw_m1 171 rfl) rfl
theorem q180 : (Jvm.Cond.laysFinal "java/lang/Integer" "java/lang/Integer" "value" "I") ∈ lw_all := lw_g (lw_at lw_m1 172 rfl) rfl
theorem q181 : (Jvm.Cond.soleField "java/lang/Integer" "value") ∈ lw_all := lw_g (lw_at lw_m1 173 rfl) rfl
theorem q182 : (Jvm.Cond.superclass "java/lang/Integer" "java/lang/Number") ∈ lw_all := lw_g (lw_at lw_m1 174 rfl) rfl
theorem q199 : (Jvm.Cond.selects "java/lang/Integer" ({ cls := "java/lang/Object", name := "hashCode", desc := "()I" } : Jvm.MethodName) ({ cls := "java/lang/Integer", name := "hashCode", desc := "()I" } : Jvm.MethodName)) ∈ lw_all := lw_g (lw_at lw_m1 191 rfl) rfl
theorem q200 : (Jvm.Cond.instanceMethod ({ cls := "java/lang/Integer", name := "hashCode", desc := "()I" } : Jvm.MethodName)) ∈ lw_all := lw_g (lw_at lw_m1 192 rfl) rfl
theorem q201 : (Jvm.Cond.code ({ cls := "java/lang/Integer", name := "hashCode", desc := "()I" } : Jvm.MethodName) prog_10_method_32_code (1 : Nat) (Option.some Jvm.ClassFile.FieldType.int)) ∈ lw_all := lw_g (lw_at lw_m1 193 rfl) rfl
theorem q202 : (Jvm.Cond.methodLink "java/lang/Integer" (208 : Nat) ({ cls := "java/lang/Integer", name := "hashCode", desc := "(I)I" } : Jvm.MethodName)) ∈ lw_all := lw_g (lw_at lw_m1 194 rfl) rfl
theorem q203 : (Jvm.Cond.static ({ cls := "java/lang/Integer", name := "hashCode", desc := "(I)I" } : Jvm.MethodName)) ∈ lw_all := lw_g (lw_at lw_m1 195 rfl) rfl
theorem q204 : (Jvm.Cond.code ({ cls := "java/lang/Integer", name := "hashCode", desc := "(I)I" } : Jvm.MethodName) prog_10_method_33_code (1 : Nat) (Option.some Jvm.ClassFile.FieldType.int)) ∈ lw_all := lw_g (lw_at lw_m1 196 rfl) rfl
theorem q320 : (Jvm.Cond.selects "java/lang/Integer" ({ cls := "java/lang/Object", name := "getClass", desc := "()Ljava/lang/Class;" } : Jvm.MethodName) ({ cls := "java/lang/Object", name := "getClass", desc := "()Ljava/lang/Class;" } : Jvm.MethodName)) ∈ lw_all := lw_g (lw_at lw_m2 72 rfl) rfl
theorem q342 : (Jvm.Cond.castable "java/lang/Integer" "java/lang/Comparable") ∈ lw_tbl := lw_at lw_m2 94 rfl
theorem q343 : (Jvm.Cond.selects "java/lang/Integer" ({ cls := "java/lang/Comparable", name := "compareTo", desc := "(Ljava/lang/Object;)I" } : Jvm.MethodName) ({ cls := "java/lang/Integer", name := "compareTo", desc := "(Ljava/lang/Object;)I" } : Jvm.MethodName)) ∈ lw_all := lw_g (lw_at lw_m2 95 rfl) rfl
theorem q344 : (Jvm.Cond.unhidden "java/lang/Integer" "compareTo" "(Ljava/lang/Object;)I") ∈ lw_tbl := lw_at lw_m2 96 rfl
theorem q345 : (Jvm.Cond.instanceMethod ({ cls := "java/lang/Integer", name := "compareTo", desc := "(Ljava/lang/Object;)I" } : Jvm.MethodName)) ∈ lw_all := lw_g (lw_at lw_m2 97 rfl) rfl
theorem q346 : (Jvm.Cond.publicMethod ({ cls := "java/lang/Integer", name := "compareTo", desc := "(Ljava/lang/Object;)I" } : Jvm.MethodName)) ∈ lw_tbl := lw_at lw_m2 98 rfl
theorem q347 : (Jvm.Cond.code ({ cls := "java/lang/Integer", name := "compareTo", desc := "(Ljava/lang/Object;)I" } : Jvm.MethodName) prog_10_method_63_code (2 : Nat) (Option.some Jvm.ClassFile.FieldType.int)) ∈ lw_all := lw_g (lw_at lw_m2 99 rfl) rfl
theorem q348 : (Jvm.Cond.methodLink "java/lang/Integer" (284 : Nat) ({ cls := "java/lang/Integer", name := "compareTo", desc := "(Ljava/lang/Integer;)I" } : Jvm.MethodName)) ∈ lw_all := lw_g (lw_at lw_m2 100 rfl) rfl
theorem q349 : (Jvm.Cond.instanceMethod ({ cls := "java/lang/Integer", name := "compareTo", desc := "(Ljava/lang/Integer;)I" } : Jvm.MethodName)) ∈ lw_all := lw_g (lw_at lw_m2 101 rfl) rfl
theorem q350 : (Jvm.Cond.selects "java/lang/Integer" ({ cls := "java/lang/Integer", name := "compareTo", desc := "(Ljava/lang/Integer;)I" } : Jvm.MethodName) ({ cls := "java/lang/Integer", name := "compareTo", desc := "(Ljava/lang/Integer;)I" } : Jvm.MethodName)) ∈ lw_all := lw_g (lw_at lw_m2 102 rfl) rfl
theorem q351 : (Jvm.Cond.code ({ cls := "java/lang/Integer", name := "compareTo", desc := "(Ljava/lang/Integer;)I" } : Jvm.MethodName) prog_10_method_39_code (2 : Nat) (Option.some Jvm.ClassFile.FieldType.int)) ∈ lw_all := lw_g (lw_at lw_m2 103 rfl) rfl
theorem q352 : (Jvm.Cond.methodLink "java/lang/Integer" (259 : Nat) ({ cls := "java/lang/Integer", name := "compare", desc := "(II)I" } : Jvm.MethodName)) ∈ lw_all := lw_g (lw_at lw_m2 104 rfl) rfl
theorem q353 : (Jvm.Cond.static ({ cls := "java/lang/Integer", name := "compare", desc := "(II)I" } : Jvm.MethodName)) ∈ lw_all := lw_g (lw_at lw_m2 105 rfl) rfl
theorem q354 : (Jvm.Cond.code ({ cls := "java/lang/Integer", name := "compare", desc := "(II)I" } : Jvm.MethodName) prog_10_method_40_code (2 : Nat) (Option.some Jvm.ClassFile.FieldType.int)) ∈ lw_all := lw_g (lw_at lw_m2 106 rfl) rfl
theorem q388 : (Jvm.Cond.selects "java/lang/Integer" ({ cls := "java/lang/Object", name := "equals", desc := "(Ljava/lang/Object;)Z" } : Jvm.MethodName) ({ cls := "java/lang/Integer", name := "equals", desc := "(Ljava/lang/Object;)Z" } : Jvm.MethodName)) ∈ lw_all := lw_g (lw_at lw_m2 140 rfl) rfl
theorem q389 : (Jvm.Cond.instanceMethod ({ cls := "java/lang/Integer", name := "equals", desc := "(Ljava/lang/Object;)Z" } : Jvm.MethodName)) ∈ lw_all := lw_g (lw_at lw_m2 141 rfl) rfl
theorem q390 : (Jvm.Cond.code ({ cls := "java/lang/Integer", name := "equals", desc := "(Ljava/lang/Object;)Z" } : Jvm.MethodName) prog_10_method_34_code (2 : Nat) (Option.some Jvm.ClassFile.FieldType.boolean)) ∈ lw_all := lw_g (lw_at lw_m2 142 rfl) rfl
theorem q391 : (Jvm.Cond.methodLink "java/lang/Integer" (211 : Nat) ({ cls := "java/lang/Integer", name := "intValue", desc := "()I" } : Jvm.MethodName)) ∈ lw_all := lw_g (lw_at lw_m2 143 rfl) rfl
theorem q392 : (Jvm.Cond.instanceMethod ({ cls := "java/lang/Integer", name := "intValue", desc := "()I" } : Jvm.MethodName)) ∈ lw_all := lw_g (lw_at lw_m2 144 rfl) rfl
theorem q393 : (Jvm.Cond.selects "java/lang/Integer" ({ cls := "java/lang/Integer", name := "intValue", desc := "()I" } : Jvm.MethodName) ({ cls := "java/lang/Integer", name := "intValue", desc := "()I" } : Jvm.MethodName)) ∈ lw_all := lw_g (lw_at lw_m2 145 rfl) rfl
theorem q394 : (Jvm.Cond.code ({ cls := "java/lang/Integer", name := "intValue", desc := "()I" } : Jvm.MethodName) prog_10_method_27_code (1 : Nat) (Option.some Jvm.ClassFile.FieldType.int)) ∈ lw_all := lw_g (lw_at lw_m2 146 rfl) rfl
theorem q987 : (Jvm.Cond.instanceMethod ({ cls := "java/lang/Integer", name := "longValue", desc := "()J" } : Jvm.MethodName)) ∈ lw_all := lw_g (lw_at lw_m5 19 rfl) rfl
theorem q988 : (Jvm.Cond.selects "java/lang/Integer" ({ cls := "java/lang/Integer", name := "longValue", desc := "()J" } : Jvm.MethodName) ({ cls := "java/lang/Integer", name := "longValue", desc := "()J" } : Jvm.MethodName)) ∈ lw_all := lw_g (lw_at lw_m5 20 rfl) rfl
theorem q989 : (Jvm.Cond.code ({ cls := "java/lang/Integer", name := "longValue", desc := "()J" } : Jvm.MethodName) prog_10_method_28_code (1 : Nat) (Option.some Jvm.ClassFile.FieldType.long)) ∈ lw_all := lw_g (lw_at lw_m5 21 rfl) rfl
theorem q1300 : (Jvm.Cond.castable "java/lang/Integer" "java/lang/Object") ∈ lw_tbl := lw_at lw_m6 92 rfl
theorem in_J5 : ∀ w ∈ wsJ50, w ∈ lw_all := lw_in wsJ50 [180] (by decide +kernel) (by decide +kernel)
set_option maxRecDepth 100000
def RJ6 : String := "java/util/HashMap$Node"
def TJ6 : u_T := fun k => match k with
  | 0 => ("java/util/HashMap$Node", "hash", "I", true)
  | 1 => ("java/util/HashMap$Node", "key", "Ljava/lang/Object;", true)
  | 2 => ("java/util/HashMap$Node", "value", "Ljava/lang/Object;", false)
  | _ => ("java/util/HashMap$Node", "next", "Ljava/util/HashMap$Node;", false)
def tyJ6 : Nat → FieldType := fun k => match k with
  | 0 => .int
  | 1 => .object "java/lang/Object"
  | 2 => .object "java/lang/Object"
  | _ => .object "java/util/HashMap$Node"
abbrev wsJ60 : List Cond := u_ws RJ6 TJ6 4
theorem nmJ6 : ∀ a, a < 4 → ∀ b, b < 4 → a ≠ b → (TJ6 a).2.1 ≠ (TJ6 b).2.1 := by decide +kernel
theorem tyJ6_ok : ∀ k, k < 4 → parseFieldDescriptor (TJ6 k).2.2.1 = some (tyJ6 k) := by decide +kernel
abbrev cJ6_init : ByteArray := prog_32_method_1_code
def yJ6_init : MethodName := ⟨RJ6, "<init>", "(ILjava/lang/Object;Ljava/lang/Object;Ljava/util/HashMap$Node;)V"⟩
theorem dJ6_init_0 : decode cJ6_init 0 = .ok (.aload_n 0, 1) := by decide +kernel
theorem dJ6_init_1 : decode cJ6_init 1 = .ok (.invokespecial 1, 3) := by decide +kernel
theorem dJ6_init_4 : decode cJ6_init 4 = .ok (.aload_n 0, 1) := by decide +kernel
theorem dJ6_init_5 : decode cJ6_init 5 = .ok (.iload_n 1, 1) := by decide +kernel
theorem dJ6_init_6 : decode cJ6_init 6 = .ok (.putfield 7, 3) := by decide +kernel
theorem dJ6_init_9 : decode cJ6_init 9 = .ok (.aload_n 0, 1) := by decide +kernel
theorem dJ6_init_10 : decode cJ6_init 10 = .ok (.aload_n 2, 1) := by decide +kernel
theorem dJ6_init_11 : decode cJ6_init 11 = .ok (.putfield 13, 3) := by decide +kernel
theorem dJ6_init_14 : decode cJ6_init 14 = .ok (.aload_n 0, 1) := by decide +kernel
theorem dJ6_init_15 : decode cJ6_init 15 = .ok (.aload_n 3, 1) := by decide +kernel
theorem dJ6_init_16 : decode cJ6_init 16 = .ok (.putfield 17, 3) := by decide +kernel
theorem dJ6_init_19 : decode cJ6_init 19 = .ok (.aload_n 0, 1) := by decide +kernel
theorem dJ6_init_20 : decode cJ6_init 20 = .ok (.aload 4, 2) := by decide +kernel
theorem dJ6_init_22 : decode cJ6_init 22 = .ok (.putfield 20, 3) := by decide +kernel
theorem dJ6_init_25 : decode cJ6_init 25 = .ok (.return_, 1) := by decide +kernel
abbrev cJ6_getKey : ByteArray := prog_32_method_2_code
def yJ6_getKey : MethodName := ⟨RJ6, "getKey", "()Ljava/lang/Object;"⟩
theorem dJ6_getKey_0 : decode cJ6_getKey 0 = .ok (.aload_n 0, 1) := by decide +kernel
theorem dJ6_getKey_1 : decode cJ6_getKey 1 = .ok (.getfield 13, 3) := by decide +kernel
theorem dJ6_getKey_4 : decode cJ6_getKey 4 = .ok (.areturn, 1) := by decide +kernel
abbrev cJ6_getValue : ByteArray := prog_32_method_3_code
def yJ6_getValue : MethodName := ⟨RJ6, "getValue", "()Ljava/lang/Object;"⟩
theorem dJ6_getValue_0 : decode cJ6_getValue 0 = .ok (.aload_n 0, 1) := by decide +kernel
theorem dJ6_getValue_1 : decode cJ6_getValue 1 = .ok (.getfield 17, 3) := by decide +kernel
theorem dJ6_getValue_4 : decode cJ6_getValue 4 = .ok (.areturn, 1) := by decide +kernel
abbrev cJ6_setValue : ByteArray := prog_32_method_6_code
def yJ6_setValue : MethodName := ⟨RJ6, "setValue", "(Ljava/lang/Object;)Ljava/lang/Object;"⟩
theorem dJ6_setValue_0 : decode cJ6_setValue 0 = .ok (.aload_n 0, 1) := by decide +kernel
theorem dJ6_setValue_1 : decode cJ6_setValue 1 = .ok (.getfield 17, 3) := by decide +kernel
theorem dJ6_setValue_4 : decode cJ6_setValue 4 = .ok (.astore_n 2, 1) := by decide +kernel
theorem dJ6_setValue_5 : decode cJ6_setValue 5 = .ok (.aload_n 0, 1) := by decide +kernel
theorem dJ6_setValue_6 : decode cJ6_setValue 6 = .ok (.aload_n 1, 1) := by decide +kernel
theorem dJ6_setValue_7 : decode cJ6_setValue 7 = .ok (.putfield 17, 3) := by decide +kernel
theorem dJ6_setValue_10 : decode cJ6_setValue 10 = .ok (.aload_n 2, 1) := by decide +kernel
theorem dJ6_setValue_11 : decode cJ6_setValue 11 = .ok (.areturn, 1) := by decide +kernel
theorem q19 : (Jvm.Cond.initialized "java/util/HashMap$Node") ∈ lw_all := lw_g (lw_at lw_m1 11 rfl) rfl
theorem q245 : (Jvm.Cond.instanceMethod ({ cls := "java/util/HashMap$Node", name := "<init>", desc := "(ILjava/lang/Object;Ljava/lang/Object;Ljava/util/HashMap$Node;)V" } : Jvm.MethodName)) ∈ lw_all := lw_g (lw_at lw_m1 237 rfl) rfl
theorem q246 : (Jvm.Cond.code ({ cls := "java/util/HashMap$Node", name := "<init>", desc := "(ILjava/lang/Object;Ljava/lang/Object;Ljava/util/HashMap$Node;)V" } : Jvm.MethodName) prog_32_method_1_code (5 : Nat) (Option.none : Option Jvm.ClassFile.FieldType)) ∈ lw_all := lw_g (lw_at lw_m1 238 rfl) rfl
theorem q247 : (Jvm.Cond.methodLink "java/util/HashMap$Node" (1 : Nat) ({ cls := "java/lang/Object", name := "<init>", desc := "()V" } : Jvm.MethodName)) ∈ lw_all := lw_g (lw_at lw_m1 239 rfl) rfl
theorem q252 : (Jvm.Cond.fieldLink "java/util/HashMap$Node" (7 : Nat) "java/util/HashMap$Node" "hash" "I") ∈ lw_all := lw_g (lw_at lw_m2 4 rfl) rfl
theorem q260 : (Jvm.Cond.fieldLink "java/util/HashMap$Node" (13 : Nat) "java/util/HashMap$Node" "key" "Ljava/lang/Object;") ∈ lw_all := lw_g (lw_at lw_m2 12 rfl) rfl
theorem q269 : (Jvm.Cond.fieldLink "java/util/HashMap$Node" (17 : Nat) "java/util/HashMap$Node" "value" "Ljava/lang/Object;") ∈ lw_all := lw_g (lw_at lw_m2 21 rfl) rfl
theorem q274 : (Jvm.Cond.fieldLink "java/util/HashMap$Node" (20 : Nat) "java/util/HashMap$Node" "next" "Ljava/util/HashMap$Node;") ∈ lw_all := lw_g (lw_at lw_m2 26 rfl) rfl
theorem q286 : (Jvm.Cond.soleField "java/util/HashMap$Node" "hash") ∈ lw_all := lw_g (lw_at lw_m2 38 rfl) rfl
theorem q288 : (Jvm.Cond.soleField "java/util/HashMap$Node" "key") ∈ lw_all := lw_g (lw_at lw_m2 40 rfl) rfl
theorem q290 : (Jvm.Cond.soleField "java/util/HashMap$Node" "value") ∈ lw_all := lw_g (lw_at lw_m2 42 rfl) rfl
theorem q292 : (Jvm.Cond.soleField "java/util/HashMap$Node" "next") ∈ lw_all := lw_g (lw_at lw_m2 44 rfl) rfl
theorem q299 : (Jvm.Cond.instantiable "java/util/HashMap$Node" (4 : Nat)) ∈ lw_all := lw_g (lw_at lw_m2 51 rfl) rfl
theorem q301 : (Jvm.Cond.laysFinal "java/util/HashMap$Node" "java/util/HashMap$Node" "hash" "I") ∈ lw_all := lw_g (lw_at lw_m2 53 rfl) rfl
theorem q302 : (Jvm.Cond.laysFinal "java/util/HashMap$Node" "java/util/HashMap$Node" "key" "Ljava/lang/Object;") ∈ lw_all := lw_g (lw_at lw_m2 54 rfl) rfl
theorem q303 : (Jvm.Cond.lays "java/util/HashMap$Node" "java/util/HashMap$Node" "value" "Ljava/lang/Object;") ∈ lw_all := lw_g (lw_at lw_m2 55 rfl) rfl
theorem q304 : (Jvm.Cond.lays "java/util/HashMap$Node" "java/util/HashMap$Node" "next" "Ljava/util/HashMap$Node;") ∈ lw_all := lw_g (lw_at lw_m2 56 rfl) rfl
theorem q305 : (Jvm.Cond.superclass "java/util/HashMap$Node" "java/lang/Object") ∈ lw_all := lw_g (lw_at lw_m2 57 rfl) rfl
theorem q326 : (Jvm.Cond.selects "java/util/HashMap$Node" ({ cls := "java/lang/Object", name := "getClass", desc := "()Ljava/lang/Class;" } : Jvm.MethodName) ({ cls := "java/lang/Object", name := "getClass", desc := "()Ljava/lang/Class;" } : Jvm.MethodName)) ∈ lw_all := lw_g (lw_at lw_m2 78 rfl) rfl
theorem q842 : (Jvm.Cond.declares ({ cls := "java/util/HashMap$Node", name := "getKey", desc := "()Ljava/lang/Object;" } : Jvm.MethodName)) ∈ lw_tbl := lw_at lw_m4 114 rfl
theorem q845 : (Jvm.Cond.instanceMethod ({ cls := "java/util/HashMap$Node", name := "getKey", desc := "()Ljava/lang/Object;" } : Jvm.MethodName)) ∈ lw_all := lw_g (lw_at lw_m4 117 rfl) rfl
theorem q846 : (Jvm.Cond.code ({ cls := "java/util/HashMap$Node", name := "getKey", desc := "()Ljava/lang/Object;" } : Jvm.MethodName) prog_32_method_2_code (1 : Nat) (Option.some (Jvm.ClassFile.FieldType.object "java/lang/Object"))) ∈ lw_all := lw_g (lw_at lw_m4 118 rfl) rfl
theorem q949 : (Jvm.Cond.castable "java/util/HashMap$Node" "java/util/Map$Entry") ∈ lw_tbl := lw_at lw_m4 221 rfl
theorem q950 : (Jvm.Cond.selects "java/util/HashMap$Node" ({ cls := "java/util/Map$Entry", name := "getKey", desc := "()Ljava/lang/Object;" } : Jvm.MethodName) ({ cls := "java/util/HashMap$Node", name := "getKey", desc := "()Ljava/lang/Object;" } : Jvm.MethodName)) ∈ lw_all := lw_g (lw_at lw_m4 222 rfl) rfl
theorem q951 : (Jvm.Cond.unhidden "java/util/HashMap$Node" "getKey" "()Ljava/lang/Object;") ∈ lw_tbl := lw_at lw_m4 223 rfl
theorem q952 : (Jvm.Cond.publicMethod ({ cls := "java/util/HashMap$Node", name := "getKey", desc := "()Ljava/lang/Object;" } : Jvm.MethodName)) ∈ lw_tbl := lw_at lw_m4 224 rfl
theorem q963 : (Jvm.Cond.selects "java/util/HashMap$Node" ({ cls := "java/util/Map$Entry", name := "getValue", desc := "()Ljava/lang/Object;" } : Jvm.MethodName) ({ cls := "java/util/HashMap$Node", name := "getValue", desc := "()Ljava/lang/Object;" } : Jvm.MethodName)) ∈ lw_all := lw_g (lw_at lw_m4 235 rfl) rfl
theorem q964 : (Jvm.Cond.unhidden "java/util/HashMap$Node" "getValue" "()Ljava/lang/Object;") ∈ lw_tbl := lw_at lw_m4 236 rfl
theorem q965 : (Jvm.Cond.instanceMethod ({ cls := "java/util/HashMap$Node", name := "getValue", desc := "()Ljava/lang/Object;" } : Jvm.MethodName)) ∈ lw_all := lw_g (lw_at lw_m4 237 rfl) rfl
theorem q966 : (Jvm.Cond.publicMethod ({ cls := "java/util/HashMap$Node", name := "getValue", desc := "()Ljava/lang/Object;" } : Jvm.MethodName)) ∈ lw_tbl := lw_at lw_m4 238 rfl
theorem q967 : (Jvm.Cond.code ({ cls := "java/util/HashMap$Node", name := "getValue", desc := "()Ljava/lang/Object;" } : Jvm.MethodName) prog_32_method_3_code (1 : Nat) (Option.some (Jvm.ClassFile.FieldType.object "java/lang/Object"))) ∈ lw_all := lw_g (lw_at lw_m4 239 rfl) rfl
theorem q1029 : (Jvm.Cond.selects "java/util/HashMap$Node" ({ cls := "java/util/Map$Entry", name := "setValue", desc := "(Ljava/lang/Object;)Ljava/lang/Object;" } : Jvm.MethodName) ({ cls := "java/util/HashMap$Node", name := "setValue", desc := "(Ljava/lang/Object;)Ljava/lang/Object;" } : Jvm.MethodName)) ∈ lw_all := lw_g (lw_at lw_m5 61 rfl) rfl
theorem q1030 : (Jvm.Cond.unhidden "java/util/HashMap$Node" "setValue" "(Ljava/lang/Object;)Ljava/lang/Object;") ∈ lw_tbl := lw_at lw_m5 62 rfl
theorem q1031 : (Jvm.Cond.instanceMethod ({ cls := "java/util/HashMap$Node", name := "setValue", desc := "(Ljava/lang/Object;)Ljava/lang/Object;" } : Jvm.MethodName)) ∈ lw_all := lw_g (lw_at lw_m5 63 rfl) rfl
theorem q1032 : (Jvm.Cond.publicMethod ({ cls := "java/util/HashMap$Node", name := "setValue", desc := "(Ljava/lang/Object;)Ljava/lang/Object;" } : Jvm.MethodName)) ∈ lw_tbl := lw_at lw_m5 64 rfl
theorem q1033 : (Jvm.Cond.code ({ cls := "java/util/HashMap$Node", name := "setValue", desc := "(Ljava/lang/Object;)Ljava/lang/Object;" } : Jvm.MethodName) prog_32_method_6_code (3 : Nat) (Option.some (Jvm.ClassFile.FieldType.object "java/lang/Object"))) ∈ lw_all := lw_g (lw_at lw_m5 65 rfl) rfl
theorem q1301 : (Jvm.Cond.castable "java/util/HashMap$Node" "java/lang/Object") ∈ lw_tbl := lw_at lw_m6 93 rfl
theorem in_J6 : ∀ w ∈ wsJ60, w ∈ lw_all := lw_in wsJ60 [301, 302, 303, 304] (by decide +kernel) (by decide +kernel)
set_option maxRecDepth 100000
def RJ7 : String := "java/util/LinkedHashMap$Entry"
def TJ7 : u_T := fun k => match k with
  | 0 => ("java/util/HashMap$Node", "hash", "I", true)
  | 1 => ("java/util/HashMap$Node", "key", "Ljava/lang/Object;", true)
  | 2 => ("java/util/HashMap$Node", "value", "Ljava/lang/Object;", false)
  | 3 => ("java/util/HashMap$Node", "next", "Ljava/util/HashMap$Node;", false)
  | 4 => ("java/util/LinkedHashMap$Entry", "before", "Ljava/util/LinkedHashMap$Entry;", false)
  | _ => ("java/util/LinkedHashMap$Entry", "after", "Ljava/util/LinkedHashMap$Entry;", false)
def tyJ7 : Nat → FieldType := fun k => match k with
  | 0 => .int
  | 1 => .object "java/lang/Object"
  | 2 => .object "java/lang/Object"
  | 3 => .object "java/util/HashMap$Node"
  | 4 => .object "java/util/LinkedHashMap$Entry"
  | _ => .object "java/util/LinkedHashMap$Entry"
abbrev wsJ70 : List Cond := u_ws RJ7 TJ7 6
theorem nmJ7 : ∀ a, a < 6 → ∀ b, b < 6 → a ≠ b → (TJ7 a).2.1 ≠ (TJ7 b).2.1 := by decide +kernel
theorem tyJ7_ok : ∀ k, k < 6 → parseFieldDescriptor (TJ7 k).2.2.1 = some (tyJ7 k) := by decide +kernel
abbrev cJ7_init : ByteArray := prog_36_method_1_code
def yJ7_init : MethodName := ⟨RJ7, "<init>", "(ILjava/lang/Object;Ljava/lang/Object;Ljava/util/HashMap$Node;)V"⟩
theorem dJ7_init_0 : decode cJ7_init 0 = .ok (.aload_n 0, 1) := by decide +kernel
theorem dJ7_init_1 : decode cJ7_init 1 = .ok (.iload_n 1, 1) := by decide +kernel
theorem dJ7_init_2 : decode cJ7_init 2 = .ok (.aload_n 2, 1) := by decide +kernel
theorem dJ7_init_3 : decode cJ7_init 3 = .ok (.aload_n 3, 1) := by decide +kernel
theorem dJ7_init_4 : decode cJ7_init 4 = .ok (.aload 4, 2) := by decide +kernel
theorem dJ7_init_6 : decode cJ7_init 6 = .ok (.invokespecial 1, 3) := by decide +kernel
theorem dJ7_init_9 : decode cJ7_init 9 = .ok (.return_, 1) := by decide +kernel
theorem q20 : (Jvm.Cond.initialized "java/util/LinkedHashMap$Entry") ∈ lw_all := lw_g (lw_at lw_m1 12 rfl) rfl
theorem q240 : (Jvm.Cond.instantiable "java/util/LinkedHashMap$Entry" (6 : Nat)) ∈ lw_all := lw_g (lw_at lw_m1 232 rfl) rfl
theorem q242 : (Jvm.Cond.instanceMethod ({ cls := "java/util/LinkedHashMap$Entry", name := "<init>", desc := "(ILjava/lang/Object;Ljava/lang/Object;Ljava/util/HashMap$Node;)V" } : Jvm.MethodName)) ∈ lw_all := lw_g (lw_at lw_m1 234 rfl) rfl
theorem q243 : (Jvm.Cond.code ({ cls := "java/util/LinkedHashMap$Entry", name := "<init>", desc := "(ILjava/lang/Object;Ljava/lang/Object;Ljava/util/HashMap$Node;)V" } : Jvm.MethodName) prog_36_method_1_code (5 : Nat) (Option.none : Option Jvm.ClassFile.FieldType)) ∈ lw_all := lw_g (lw_at lw_m1 235 rfl) rfl
theorem q244 : (Jvm.Cond.methodLink "java/util/LinkedHashMap$Entry" (1 : Nat) ({ cls := "java/util/HashMap$Node", name := "<init>", desc := "(ILjava/lang/Object;Ljava/lang/Object;Ljava/util/HashMap$Node;)V" } : Jvm.MethodName)) ∈ lw_all := lw_g (lw_at lw_m1 236 rfl) rfl
theorem q258 : (Jvm.Cond.sameField "java/util/LinkedHashMap$Entry" "java/util/HashMap$Node" "hash" "I") ∈ lw_all := lw_g (lw_at lw_m2 10 rfl) rfl
theorem q267 : (Jvm.Cond.sameField "java/util/LinkedHashMap$Entry" "java/util/HashMap$Node" "key" "Ljava/lang/Object;") ∈ lw_all := lw_g (lw_at lw_m2 19 rfl) rfl
theorem q271 : (Jvm.Cond.sameField "java/util/LinkedHashMap$Entry" "java/util/HashMap$Node" "value" "Ljava/lang/Object;") ∈ lw_all := lw_g (lw_at lw_m2 23 rfl) rfl
theorem q281 : (Jvm.Cond.lays "java/util/LinkedHashMap$Entry" "java/util/LinkedHashMap$Entry" "before" "Ljava/util/LinkedHashMap$Entry;") ∈ lw_all := lw_g (lw_at lw_m2 33 rfl) rfl
theorem q282 : (Jvm.Cond.soleField "java/util/LinkedHashMap$Entry" "before") ∈ lw_all := lw_g (lw_at lw_m2 34 rfl) rfl
theorem q283 : (Jvm.Cond.lays "java/util/LinkedHashMap$Entry" "java/util/LinkedHashMap$Entry" "after" "Ljava/util/LinkedHashMap$Entry;") ∈ lw_all := lw_g (lw_at lw_m2 35 rfl) rfl
theorem q284 : (Jvm.Cond.soleField "java/util/LinkedHashMap$Entry" "after") ∈ lw_all := lw_g (lw_at lw_m2 36 rfl) rfl
theorem q285 : (Jvm.Cond.laysFinal "java/util/LinkedHashMap$Entry" "java/util/HashMap$Node" "hash" "I") ∈ lw_all := lw_g (lw_at lw_m2 37 rfl) rfl
theorem q287 : (Jvm.Cond.laysFinal "java/util/LinkedHashMap$Entry" "java/util/HashMap$Node" "key" "Ljava/lang/Object;") ∈ lw_all := lw_g (lw_at lw_m2 39 rfl) rfl
theorem q289 : (Jvm.Cond.lays "java/util/LinkedHashMap$Entry" "java/util/HashMap$Node" "value" "Ljava/lang/Object;") ∈ lw_all := lw_g (lw_at lw_m2 41 rfl) rfl
theorem q291 : (Jvm.Cond.lays "java/util/LinkedHashMap$Entry" "java/util/HashMap$Node" "next" "Ljava/util/HashMap$Node;") ∈ lw_all := lw_g (lw_at lw_m2 43 rfl) rfl
theorem q293 : (Jvm.Cond.superclass "java/util/LinkedHashMap$Entry" "java/util/HashMap$Node") ∈ lw_all := lw_g (lw_at lw_m2 45 rfl) rfl
theorem q329 : (Jvm.Cond.selects "java/util/LinkedHashMap$Entry" ({ cls := "java/lang/Object", name := "getClass", desc := "()Ljava/lang/Class;" } : Jvm.MethodName) ({ cls := "java/lang/Object", name := "getClass", desc := "()Ljava/lang/Class;" } : Jvm.MethodName)) ∈ lw_all := lw_g (lw_at lw_m2 81 rfl) rfl
theorem q841 : (Jvm.Cond.sameMethod "java/util/LinkedHashMap$Entry" "java/util/HashMap$Node" "getKey" "()Ljava/lang/Object;") ∈ lw_all := lw_g (lw_at lw_m4 113 rfl) rfl
theorem q844 : (Jvm.Cond.selects "java/util/LinkedHashMap$Entry" ({ cls := "java/util/LinkedHashMap$Entry", name := "getKey", desc := "()Ljava/lang/Object;" } : Jvm.MethodName) ({ cls := "java/util/HashMap$Node", name := "getKey", desc := "()Ljava/lang/Object;" } : Jvm.MethodName)) ∈ lw_all := lw_g (lw_at lw_m4 116 rfl) rfl
theorem q956 : (Jvm.Cond.castable "java/util/LinkedHashMap$Entry" "java/util/Map$Entry") ∈ lw_tbl := lw_at lw_m4 228 rfl
theorem q957 : (Jvm.Cond.selects "java/util/LinkedHashMap$Entry" ({ cls := "java/util/Map$Entry", name := "getKey", desc := "()Ljava/lang/Object;" } : Jvm.MethodName) ({ cls := "java/util/HashMap$Node", name := "getKey", desc := "()Ljava/lang/Object;" } : Jvm.MethodName)) ∈ lw_all := lw_g (lw_at lw_m4 229 rfl) rfl
theorem q958 : (Jvm.Cond.unhidden "java/util/LinkedHashMap$Entry" "getKey" "()Ljava/lang/Object;") ∈ lw_tbl := lw_at lw_m4 230 rfl
theorem q970 : (Jvm.Cond.selects "java/util/LinkedHashMap$Entry" ({ cls := "java/util/Map$Entry", name := "getValue", desc := "()Ljava/lang/Object;" } : Jvm.MethodName) ({ cls := "java/util/HashMap$Node", name := "getValue", desc := "()Ljava/lang/Object;" } : Jvm.MethodName)) ∈ lw_all := lw_g (lw_at lw_m5 2 rfl) rfl
theorem q971 : (Jvm.Cond.unhidden "java/util/LinkedHashMap$Entry" "getValue" "()Ljava/lang/Object;") ∈ lw_tbl := lw_at lw_m5 3 rfl
theorem q1036 : (Jvm.Cond.selects "java/util/LinkedHashMap$Entry" ({ cls := "java/util/Map$Entry", name := "setValue", desc := "(Ljava/lang/Object;)Ljava/lang/Object;" } : Jvm.MethodName) ({ cls := "java/util/HashMap$Node", name := "setValue", desc := "(Ljava/lang/Object;)Ljava/lang/Object;" } : Jvm.MethodName)) ∈ lw_all := lw_g (lw_at lw_m5 68 rfl) rfl
theorem q1037 : (Jvm.Cond.unhidden "java/util/LinkedHashMap$Entry" "setValue" "(Ljava/lang/Object;)Ljava/lang/Object;") ∈ lw_tbl := lw_at lw_m5 69 rfl
theorem q1293 : (Jvm.Cond.castable "java/util/LinkedHashMap$Entry" "java/util/HashMap$Node") ∈ lw_tbl := lw_at lw_m6 85 rfl
theorem q1302 : (Jvm.Cond.castable "java/util/LinkedHashMap$Entry" "java/lang/Object") ∈ lw_tbl := lw_at lw_m6 94 rfl
theorem in_J7 : ∀ w ∈ wsJ70, w ∈ lw_all := lw_in wsJ70 [285, 287, 289, 291, 281, 283] (by decide +kernel) (by decide +kernel)
set_option maxRecDepth 100000
def RJ9 : String := "java/util/Arrays"
abbrev cJ9_copyOf : ByteArray := prog_24_method_123_code
def yJ9_copyOf : MethodName := ⟨RJ9, "copyOf", "([II)[I"⟩
theorem dJ9_copyOf_0 : decode cJ9_copyOf 0 = .ok (.iload_n 1, 1) := by decide +kernel
theorem dJ9_copyOf_1 : decode cJ9_copyOf 1 = .ok (.aload_n 0, 1) := by decide +kernel
theorem dJ9_copyOf_2 : decode cJ9_copyOf 2 = .ok (.arraylength, 1) := by decide +kernel
theorem dJ9_copyOf_3 : decode cJ9_copyOf 3 = .ok (.if_icmp .ne 11, 3) := by decide +kernel
theorem dJ9_copyOf_6 : decode cJ9_copyOf 6 = .ok (.aload_n 0, 1) := by decide +kernel
theorem dJ9_copyOf_7 : decode cJ9_copyOf 7 = .ok (.invokevirtual 316, 3) := by decide +kernel
theorem dJ9_copyOf_10 : decode cJ9_copyOf 10 = .ok (.checkcast 317, 3) := by decide +kernel
theorem dJ9_copyOf_13 : decode cJ9_copyOf 13 = .ok (.areturn, 1) := by decide +kernel
theorem dJ9_copyOf_14 : decode cJ9_copyOf 14 = .ok (.iload_n 1, 1) := by decide +kernel
theorem dJ9_copyOf_15 : decode cJ9_copyOf 15 = .ok (.newarray .int, 2) := by decide +kernel
theorem dJ9_copyOf_17 : decode cJ9_copyOf 17 = .ok (.astore_n 2, 1) := by decide +kernel
theorem dJ9_copyOf_18 : decode cJ9_copyOf 18 = .ok (.aload_n 0, 1) := by decide +kernel
theorem dJ9_copyOf_19 : decode cJ9_copyOf 19 = .ok (.iconst 0, 1) := by decide +kernel
theorem dJ9_copyOf_20 : decode cJ9_copyOf 20 = .ok (.aload_n 2, 1) := by decide +kernel
theorem dJ9_copyOf_21 : decode cJ9_copyOf 21 = .ok (.iconst 0, 1) := by decide +kernel
theorem dJ9_copyOf_22 : decode cJ9_copyOf 22 = .ok (.aload_n 0, 1) := by decide +kernel
theorem dJ9_copyOf_23 : decode cJ9_copyOf 23 = .ok (.arraylength, 1) := by decide +kernel
theorem dJ9_copyOf_24 : decode cJ9_copyOf 24 = .ok (.iload_n 1, 1) := by decide +kernel
theorem dJ9_copyOf_25 : decode cJ9_copyOf 25 = .ok (.invokestatic 304, 3) := by decide +kernel
theorem dJ9_copyOf_28 : decode cJ9_copyOf 28 = .ok (.invokestatic 150, 3) := by decide +kernel
theorem dJ9_copyOf_31 : decode cJ9_copyOf 31 = .ok (.aload_n 2, 1) := by decide +kernel
theorem dJ9_copyOf_32 : decode cJ9_copyOf 32 = .ok (.areturn, 1) := by decide +kernel
theorem q22 : (Jvm.Cond.initialized "java/util/Arrays") ∈ lw_all := lw_g (lw_at lw_m1 14 rfl) rfl
theorem q1178 : (Jvm.Cond.static ({ cls := "java/util/Arrays", name := "copyOf", desc := "([II)[I" } : Jvm.MethodName)) ∈ lw_all := lw_g (lw_at lw_m5 210 rfl) rfl
theorem q1179 : (Jvm.Cond.code ({ cls := "java/util/Arrays", name := "copyOf", desc := "([II)[I" } : Jvm.MethodName) prog_24_method_123_code (3 : Nat) (Option.some (Jvm.ClassFile.FieldType.array Jvm.ClassFile.FieldType.int))) ∈ lw_all := lw_g (lw_at lw_m5 211 rfl) rfl
theorem q1180 : (Jvm.Cond.methodLink "java/util/Arrays" (316 : Nat) ({ cls := "[I", name := "clone", desc := "()Ljava/lang/Object;" } : Jvm.MethodName)) ∈ lw_all := lw_g (lw_at lw_m5 212 rfl) rfl
theorem q1186 : (Jvm.Cond.classLink "java/util/Arrays" (317 : Nat) "[I") ∈ lw_all := lw_g (lw_at lw_m5 218 rfl) rfl
theorem q1187 : (Jvm.Cond.methodLink "java/util/Arrays" (304 : Nat) ({ cls := "java/lang/Math", name := "min", desc := "(II)I" } : Jvm.MethodName)) ∈ lw_all := lw_g (lw_at lw_m5 219 rfl) rfl
theorem q1190 : (Jvm.Cond.methodLink "java/util/Arrays" (150 : Nat) ({ cls := "java/lang/System", name := "arraycopy", desc := "(Ljava/lang/Object;ILjava/lang/Object;II)V" } : Jvm.MethodName)) ∈ lw_all := lw_g (lw_at lw_m5 222 rfl) rfl
set_option maxRecDepth 100000
def RJ10 : String := "java/lang/Math"
abbrev cJ10_ceil : ByteArray := prog_13_method_16_code
def yJ10_ceil : MethodName := ⟨RJ10, "ceil", "(D)D"⟩
theorem dJ10_ceil_0 : decode cJ10_ceil 0 = .ok (.dload_n 0, 1) := by decide +kernel
theorem dJ10_ceil_1 : decode cJ10_ceil 1 = .ok (.invokestatic 53, 3) := by decide +kernel
theorem dJ10_ceil_4 : decode cJ10_ceil 4 = .ok (.dreturn, 1) := by decide +kernel
abbrev cJ10_getExponent : ByteArray := prog_13_method_92_code
def yJ10_getExponent : MethodName := ⟨RJ10, "getExponent", "(D)I"⟩
theorem dJ10_getExponent_0 : decode cJ10_getExponent 0 = .ok (.dload_n 0, 1) := by decide +kernel
theorem dJ10_getExponent_1 : decode cJ10_getExponent 1 = .ok (.invokestatic 79, 3) := by decide +kernel
theorem dJ10_getExponent_4 : decode cJ10_getExponent 4 = .ok (.ldc2_w 87, 3) := by decide +kernel
theorem dJ10_getExponent_7 : decode cJ10_getExponent 7 = .ok (.land, 1) := by decide +kernel
theorem dJ10_getExponent_8 : decode cJ10_getExponent 8 = .ok (.bipush 52, 2) := by decide +kernel
theorem dJ10_getExponent_10 : decode cJ10_getExponent 10 = .ok (.lshr, 1) := by decide +kernel
theorem dJ10_getExponent_11 : decode cJ10_getExponent 11 = .ok (.ldc2_w 322, 3) := by decide +kernel
theorem dJ10_getExponent_14 : decode cJ10_getExponent 14 = .ok (.lsub, 1) := by decide +kernel
theorem dJ10_getExponent_15 : decode cJ10_getExponent 15 = .ok (.l2i, 1) := by decide +kernel
theorem dJ10_getExponent_16 : decode cJ10_getExponent 16 = .ok (.ireturn, 1) := by decide +kernel
abbrev cJ10_floorMod : ByteArray := prog_13_method_50_code
def yJ10_floorMod : MethodName := ⟨RJ10, "floorMod", "(II)I"⟩
theorem dJ10_floorMod_0 : decode cJ10_floorMod 0 = .ok (.iload_n 0, 1) := by decide +kernel
theorem dJ10_floorMod_1 : decode cJ10_floorMod 1 = .ok (.iload_n 1, 1) := by decide +kernel
theorem dJ10_floorMod_2 : decode cJ10_floorMod 2 = .ok (.irem, 1) := by decide +kernel
theorem dJ10_floorMod_3 : decode cJ10_floorMod 3 = .ok (.istore_n 2, 1) := by decide +kernel
theorem dJ10_floorMod_4 : decode cJ10_floorMod 4 = .ok (.iload_n 0, 1) := by decide +kernel
theorem dJ10_floorMod_5 : decode cJ10_floorMod 5 = .ok (.iload_n 1, 1) := by decide +kernel
theorem dJ10_floorMod_6 : decode cJ10_floorMod 6 = .ok (.ixor, 1) := by decide +kernel
theorem dJ10_floorMod_7 : decode cJ10_floorMod 7 = .ok (.ifCond .ge 11, 3) := by decide +kernel
theorem dJ10_floorMod_10 : decode cJ10_floorMod 10 = .ok (.iload_n 2, 1) := by decide +kernel
theorem dJ10_floorMod_11 : decode cJ10_floorMod 11 = .ok (.ifCond .eq 7, 3) := by decide +kernel
theorem dJ10_floorMod_14 : decode cJ10_floorMod 14 = .ok (.iload_n 2, 1) := by decide +kernel
theorem dJ10_floorMod_15 : decode cJ10_floorMod 15 = .ok (.iload_n 1, 1) := by decide +kernel
theorem dJ10_floorMod_16 : decode cJ10_floorMod 16 = .ok (.iadd, 1) := by decide +kernel
theorem dJ10_floorMod_17 : decode cJ10_floorMod 17 = .ok (.ireturn, 1) := by decide +kernel
theorem dJ10_floorMod_18 : decode cJ10_floorMod 18 = .ok (.iload_n 2, 1) := by decide +kernel
theorem dJ10_floorMod_19 : decode cJ10_floorMod 19 = .ok (.ireturn, 1) := by decide +kernel
abbrev cJ10_min : ByteArray := prog_13_method_69_code
def yJ10_min : MethodName := ⟨RJ10, "min", "(II)I"⟩
theorem dJ10_min_0 : decode cJ10_min 0 = .ok (.iload_n 0, 1) := by decide +kernel
theorem dJ10_min_1 : decode cJ10_min 1 = .ok (.iload_n 1, 1) := by decide +kernel
theorem dJ10_min_2 : decode cJ10_min 2 = .ok (.if_icmp .gt 7, 3) := by decide +kernel
theorem dJ10_min_5 : decode cJ10_min 5 = .ok (.iload_n 0, 1) := by decide +kernel
theorem dJ10_min_6 : decode cJ10_min 6 = .ok (.goto 4, 3) := by decide +kernel
theorem dJ10_min_9 : decode cJ10_min 9 = .ok (.iload_n 1, 1) := by decide +kernel
theorem dJ10_min_10 : decode cJ10_min 10 = .ok (.ireturn, 1) := by decide +kernel
theorem q23 : (Jvm.Cond.initialized "java/lang/Math") ∈ lw_all := lw_g (lw_at lw_m1 15 rfl) rfl
theorem q871 : (Jvm.Cond.static ({ cls := "java/lang/Math", name := "ceil", desc := "(D)D" } : Jvm.MethodName)) ∈ lw_all := lw_g (lw_at lw_m4 143 rfl) rfl
theorem q872 : (Jvm.Cond.code ({ cls := "java/lang/Math", name := "ceil", desc := "(D)D" } : Jvm.MethodName) prog_13_method_16_code (2 : Nat) (Option.some Jvm.ClassFile.FieldType.double)) ∈ lw_all := lw_g (lw_at lw_m4 144 rfl) rfl
theorem q873 : (Jvm.Cond.methodLink "java/lang/Math" (53 : Nat) ({ cls := "java/lang/StrictMath", name := "ceil", desc := "(D)D" } : Jvm.MethodName)) ∈ lw_all := lw_g (lw_at lw_m4 145 rfl) rfl
theorem q881 : (Jvm.Cond.static ({ cls := "java/lang/Math", name := "getExponent", desc := "(D)I" } : Jvm.MethodName)) ∈ lw_all := lw_g (lw_at lw_m4 153 rfl) rfl
theorem q882 : (Jvm.Cond.code ({ cls := "java/lang/Math", name := "getExponent", desc := "(D)I" } : Jvm.MethodName) prog_13_method_92_code (2 : Nat) (Option.some Jvm.ClassFile.FieldType.int)) ∈ lw_all := lw_g (lw_at lw_m4 154 rfl) rfl
theorem q883 : (Jvm.Cond.methodLink "java/lang/Math" (79 : Nat) ({ cls := "java/lang/Double", name := "doubleToRawLongBits", desc := "(D)J" } : Jvm.MethodName)) ∈ lw_all := lw_g (lw_at lw_m4 155 rfl) rfl
theorem q886 : (Jvm.Cond.constantLong "java/lang/Math" (87 : Nat) (9218868437227405312 : Int64)) ∈ lw_all := lw_g (lw_at lw_m4 158 rfl) rfl
theorem q887 : (Jvm.Cond.constantLong "java/lang/Math" (322 : Nat) (1023 : Int64)) ∈ lw_all := lw_g (lw_at lw_m4 159 rfl) rfl
theorem q996 : (Jvm.Cond.static ({ cls := "java/lang/Math", name := "floorMod", desc := "(II)I" } : Jvm.MethodName)) ∈ lw_all := lw_g (lw_at lw_m5 28 rfl) rfl
theorem q997 : (Jvm.Cond.code ({ cls := "java/lang/Math", name := "floorMod", desc := "(II)I" } : Jvm.MethodName) prog_13_method_50_code (3 : Nat) (Option.some Jvm.ClassFile.FieldType.int)) ∈ lw_all := lw_g (lw_at lw_m5 29 rfl) rfl
theorem q1188 : (Jvm.Cond.static ({ cls := "java/lang/Math", name := "min", desc := "(II)I" } : Jvm.MethodName)) ∈ lw_all := lw_g (lw_at lw_m5 220 rfl) rfl
theorem q1189 : (Jvm.Cond.code ({ cls := "java/lang/Math", name := "min", desc := "(II)I" } : Jvm.MethodName) prog_13_method_69_code (2 : Nat) (Option.some Jvm.ClassFile.FieldType.int)) ∈ lw_all := lw_g (lw_at lw_m5 221 rfl) rfl
set_option maxRecDepth 100000
def RJ11 : String := "java/util/AbstractCollection"
abbrev cJ11_init : ByteArray := prog_19_method_1_code
def yJ11_init : MethodName := ⟨RJ11, "<init>", "()V"⟩
theorem dJ11_init_0 : decode cJ11_init 0 = .ok (.aload_n 0, 1) := by decide +kernel
theorem dJ11_init_1 : decode cJ11_init 1 = .ok (.invokespecial 1, 3) := by decide +kernel
theorem dJ11_init_4 : decode cJ11_init 4 = .ok (.return_, 1) := by decide +kernel
theorem q25 : (Jvm.Cond.initialized "java/util/AbstractCollection") ∈ lw_all := lw_g (lw_at lw_m1 17 rfl) rfl
theorem q644 : (Jvm.Cond.instanceMethod ({ cls := "java/util/AbstractCollection", name := "<init>", desc := "()V" } : Jvm.MethodName)) ∈ lw_all := lw_g (lw_at lw_m3 156 rfl) rfl
theorem q645 : (Jvm.Cond.code ({ cls := "java/util/AbstractCollection", name := "<init>", desc := "()V" } : Jvm.MethodName) prog_19_method_1_code (1 : Nat) (Option.none : Option Jvm.ClassFile.FieldType)) ∈ lw_all := lw_g (lw_at lw_m3 157 rfl) rfl
theorem q646 : (Jvm.Cond.methodLink "java/util/AbstractCollection" (1 : Nat) ({ cls := "java/lang/Object", name := "<init>", desc := "()V" } : Jvm.MethodName)) ∈ lw_all := lw_g (lw_at lw_m3 158 rfl) rfl
set_option maxRecDepth 100000
def RJ12 : String := "java/util/AbstractSet"
abbrev cJ12_init : ByteArray := prog_22_method_1_code
def yJ12_init : MethodName := ⟨RJ12, "<init>", "()V"⟩
theorem dJ12_init_0 : decode cJ12_init 0 = .ok (.aload_n 0, 1) := by decide +kernel
theorem dJ12_init_1 : decode cJ12_init 1 = .ok (.invokespecial 1, 3) := by decide +kernel
theorem dJ12_init_4 : decode cJ12_init 4 = .ok (.return_, 1) := by decide +kernel
theorem q26 : (Jvm.Cond.initialized "java/util/AbstractSet") ∈ lw_all := lw_g (lw_at lw_m1 18 rfl) rfl
theorem q641 : (Jvm.Cond.instanceMethod ({ cls := "java/util/AbstractSet", name := "<init>", desc := "()V" } : Jvm.MethodName)) ∈ lw_all := lw_g (lw_at lw_m3 153 rfl) rfl
theorem q642 : (Jvm.Cond.code ({ cls := "java/util/AbstractSet", name := "<init>", desc := "()V" } : Jvm.MethodName) prog_22_method_1_code (1 : Nat) (Option.none : Option Jvm.ClassFile.FieldType)) ∈ lw_all := lw_g (lw_at lw_m3 154 rfl) rfl
theorem q643 : (Jvm.Cond.methodLink "java/util/AbstractSet" (1 : Nat) ({ cls := "java/util/AbstractCollection", name := "<init>", desc := "()V" } : Jvm.MethodName)) ∈ lw_all := lw_g (lw_at lw_m3 155 rfl) rfl
set_option maxRecDepth 100000
def RJ13 : String := "java/util/HashMap$KeySet"
def TJ13 : u_T := fun k => match k with
  | _ => ("java/util/HashMap$KeySet", "this$0", "Ljava/util/HashMap;", true)
def tyJ13 : Nat → FieldType := fun k => match k with
  | _ => .object "java/util/HashMap"
abbrev wsJ130 : List Cond := u_ws RJ13 TJ13 1
theorem nmJ13 : ∀ a, a < 1 → ∀ b, b < 1 → a ≠ b → (TJ13 a).2.1 ≠ (TJ13 b).2.1 := by decide +kernel
theorem tyJ13_ok : ∀ k, k < 1 → parseFieldDescriptor (TJ13 k).2.2.1 = some (tyJ13 k) := by decide +kernel
abbrev cJ13_init : ByteArray := prog_31_method_1_code
def yJ13_init : MethodName := ⟨RJ13, "<init>", "(Ljava/util/HashMap;)V"⟩
theorem dJ13_init_0 : decode cJ13_init 0 = .ok (.aload_n 0, 1) := by decide +kernel
theorem dJ13_init_1 : decode cJ13_init 1 = .ok (.aload_n 1, 1) := by decide +kernel
theorem dJ13_init_2 : decode cJ13_init 2 = .ok (.putfield 1, 3) := by decide +kernel
theorem dJ13_init_5 : decode cJ13_init 5 = .ok (.aload_n 0, 1) := by decide +kernel
theorem dJ13_init_6 : decode cJ13_init 6 = .ok (.invokespecial 7, 3) := by decide +kernel
theorem dJ13_init_9 : decode cJ13_init 9 = .ok (.return_, 1) := by decide +kernel
abbrev cJ13_iterator : ByteArray := prog_31_method_4_code
def yJ13_iterator : MethodName := ⟨RJ13, "iterator", "()Ljava/util/Iterator;"⟩
theorem dJ13_iterator_0 : decode cJ13_iterator 0 = .ok (.new 22, 3) := by decide +kernel
theorem dJ13_iterator_3 : decode cJ13_iterator 3 = .ok (.dup, 1) := by decide +kernel
theorem dJ13_iterator_4 : decode cJ13_iterator 4 = .ok (.aload_n 0, 1) := by decide +kernel
theorem dJ13_iterator_5 : decode cJ13_iterator 5 = .ok (.getfield 1, 3) := by decide +kernel
theorem dJ13_iterator_8 : decode cJ13_iterator 8 = .ok (.invokespecial 24, 3) := by decide +kernel
theorem dJ13_iterator_11 : decode cJ13_iterator 11 = .ok (.areturn, 1) := by decide +kernel
theorem q27 : (Jvm.Cond.initialized "java/util/HashMap$KeySet") ∈ lw_all := lw_g (lw_at lw_m1 19 rfl) rfl
theorem q64 : (Jvm.Cond.fieldLink "java/util/HashMap$KeySet" (13 : Nat) "java/util/HashMap" "size" "I") ∈ lw_all := lw_g (lw_at lw_m1 56 rfl) rfl
theorem q325 : (Jvm.Cond.selects "java/util/HashMap$KeySet" ({ cls := "java/lang/Object", name := "getClass", desc := "()Ljava/lang/Class;" } : Jvm.MethodName) ({ cls := "java/lang/Object", name := "getClass", desc := "()Ljava/lang/Class;" } : Jvm.MethodName)) ∈ lw_all := lw_g (lw_at lw_m2 77 rfl) rfl
theorem q657 : (Jvm.Cond.instantiable "java/util/HashMap$KeySet" (1 : Nat)) ∈ lw_all := lw_g (lw_at lw_m3 169 rfl) rfl
theorem q659 : (Jvm.Cond.instanceMethod ({ cls := "java/util/HashMap$KeySet", name := "<init>", desc := "(Ljava/util/HashMap;)V" } : Jvm.MethodName)) ∈ lw_all := lw_g (lw_at lw_m3 171 rfl) rfl
theorem q660 : (Jvm.Cond.code ({ cls := "java/util/HashMap$KeySet", name := "<init>", desc := "(Ljava/util/HashMap;)V" } : Jvm.MethodName) prog_31_method_1_code (2 : Nat) (Option.none : Option Jvm.ClassFile.FieldType)) ∈ lw_all := lw_g (lw_at lw_m3 172 rfl) rfl
theorem q661 : (Jvm.Cond.methodLink "java/util/HashMap$KeySet" (7 : Nat) ({ cls := "java/util/AbstractSet", name := "<init>", desc := "()V" } : Jvm.MethodName)) ∈ lw_all := lw_g (lw_at lw_m3 173 rfl) rfl
theorem q662 : (Jvm.Cond.fieldLink "java/util/HashMap$KeySet" (1 : Nat) "java/util/HashMap$KeySet" "this$0" "Ljava/util/HashMap;") ∈ lw_all := lw_g (lw_at lw_m3 174 rfl) rfl
theorem q663 : (Jvm.Cond.laysFinal "java/util/HashMap$KeySet" "java/util/HashMap$KeySet" "this$0" "Ljava/util/HashMap;") ∈ lw_all := lw_g (lw_at lw_m3 175 rfl) rfl
theorem q664 : (Jvm.Cond.soleField "java/util/HashMap$KeySet" "this$0") ∈ lw_all := lw_g (lw_at lw_m3 176 rfl) rfl
theorem q665 : (Jvm.Cond.superclass "java/util/HashMap$KeySet" "java/util/AbstractSet") ∈ lw_all := lw_g (lw_at lw_m3 177 rfl) rfl
theorem q701 : (Jvm.Cond.castable "java/util/HashMap$KeySet" "java/util/Set") ∈ lw_tbl := lw_at lw_m3 213 rfl
theorem q702 : (Jvm.Cond.selects "java/util/HashMap$KeySet" ({ cls := "java/util/Set", name := "iterator", desc := "()Ljava/util/Iterator;" } : Jvm.MethodName) ({ cls := "java/util/HashMap$KeySet", name := "iterator", desc := "()Ljava/util/Iterator;" } : Jvm.MethodName)) ∈ lw_all := lw_g (lw_at lw_m3 214 rfl) rfl
theorem q703 : (Jvm.Cond.unhidden "java/util/HashMap$KeySet" "iterator" "()Ljava/util/Iterator;") ∈ lw_tbl := lw_at lw_m3 215 rfl
theorem q704 : (Jvm.Cond.instanceMethod ({ cls := "java/util/HashMap$KeySet", name := "iterator", desc := "()Ljava/util/Iterator;" } : Jvm.MethodName)) ∈ lw_all := lw_g (lw_at lw_m3 216 rfl) rfl
theorem q705 : (Jvm.Cond.publicMethod ({ cls := "java/util/HashMap$KeySet", name := "iterator", desc := "()Ljava/util/Iterator;" } : Jvm.MethodName)) ∈ lw_tbl := lw_at lw_m3 217 rfl
theorem q706 : (Jvm.Cond.code ({ cls := "java/util/HashMap$KeySet", name := "iterator", desc := "()Ljava/util/Iterator;" } : Jvm.MethodName) prog_31_method_4_code (1 : Nat) (Option.some (Jvm.ClassFile.FieldType.object "java/util/Iterator"))) ∈ lw_all := lw_g (lw_at lw_m3 218 rfl) rfl
theorem q707 : (Jvm.Cond.classLink "java/util/HashMap$KeySet" (22 : Nat) "java/util/HashMap$KeyIterator") ∈ lw_all := lw_g (lw_at lw_m3 219 rfl) rfl
theorem q709 : (Jvm.Cond.methodLink "java/util/HashMap$KeySet" (24 : Nat) ({ cls := "java/util/HashMap$KeyIterator", name := "<init>", desc := "(Ljava/util/HashMap;)V" } : Jvm.MethodName)) ∈ lw_all := lw_g (lw_at lw_m3 221 rfl) rfl
theorem q1304 : (Jvm.Cond.castable "java/util/HashMap$KeySet" "java/lang/Object") ∈ lw_tbl := lw_at lw_m6 96 rfl
theorem in_J13 : ∀ w ∈ wsJ130, w ∈ lw_all := lw_in wsJ130 [663] (by decide +kernel) (by decide +kernel)
set_option maxRecDepth 100000
def RJ15 : String := "java/util/HashMap$HashIterator"
abbrev cJ15_init : ByteArray := prog_29_method_1_code
def yJ15_init : MethodName := ⟨RJ15, "<init>", "(Ljava/util/HashMap;)V"⟩
theorem dJ15_init_0 : decode cJ15_init 0 = .ok (.aload_n 0, 1) := by decide +kernel
theorem dJ15_init_1 : decode cJ15_init 1 = .ok (.aload_n 1, 1) := by decide +kernel
theorem dJ15_init_2 : decode cJ15_init 2 = .ok (.putfield 1, 3) := by decide +kernel
theorem dJ15_init_5 : decode cJ15_init 5 = .ok (.aload_n 0, 1) := by decide +kernel
theorem dJ15_init_6 : decode cJ15_init 6 = .ok (.invokespecial 7, 3) := by decide +kernel
theorem dJ15_init_9 : decode cJ15_init 9 = .ok (.aload_n 0, 1) := by decide +kernel
theorem dJ15_init_10 : decode cJ15_init 10 = .ok (.aload_n 1, 1) := by decide +kernel
theorem dJ15_init_11 : decode cJ15_init 11 = .ok (.getfield 13, 3) := by decide +kernel
theorem dJ15_init_14 : decode cJ15_init 14 = .ok (.putfield 19, 3) := by decide +kernel
theorem dJ15_init_17 : decode cJ15_init 17 = .ok (.aload_n 1, 1) := by decide +kernel
theorem dJ15_init_18 : decode cJ15_init 18 = .ok (.getfield 22, 3) := by decide +kernel
theorem dJ15_init_21 : decode cJ15_init 21 = .ok (.astore_n 2, 1) := by decide +kernel
theorem dJ15_init_22 : decode cJ15_init 22 = .ok (.aload_n 0, 1) := by decide +kernel
theorem dJ15_init_23 : decode cJ15_init 23 = .ok (.aload_n 0, 1) := by decide +kernel
theorem dJ15_init_24 : decode cJ15_init 24 = .ok (.aconst_null, 1) := by decide +kernel
theorem dJ15_init_25 : decode cJ15_init 25 = .ok (.dup_x1, 1) := by decide +kernel
theorem dJ15_init_26 : decode cJ15_init 26 = .ok (.putfield 26, 3) := by decide +kernel
theorem dJ15_init_29 : decode cJ15_init 29 = .ok (.putfield 30, 3) := by decide +kernel
theorem dJ15_init_32 : decode cJ15_init 32 = .ok (.aload_n 0, 1) := by decide +kernel
theorem dJ15_init_33 : decode cJ15_init 33 = .ok (.iconst 0, 1) := by decide +kernel
theorem dJ15_init_34 : decode cJ15_init 34 = .ok (.putfield 33, 3) := by decide +kernel
theorem dJ15_init_37 : decode cJ15_init 37 = .ok (.aload_n 2, 1) := by decide +kernel
theorem dJ15_init_38 : decode cJ15_init 38 = .ok (.ifnull 40, 3) := by decide +kernel
theorem dJ15_init_41 : decode cJ15_init 41 = .ok (.aload_n 1, 1) := by decide +kernel
theorem dJ15_init_42 : decode cJ15_init 42 = .ok (.getfield 36, 3) := by decide +kernel
theorem dJ15_init_45 : decode cJ15_init 45 = .ok (.ifCond .le 33, 3) := by decide +kernel
theorem dJ15_init_48 : decode cJ15_init 48 = .ok (.aload_n 0, 1) := by decide +kernel
theorem dJ15_init_49 : decode cJ15_init 49 = .ok (.getfield 33, 3) := by decide +kernel
theorem dJ15_init_52 : decode cJ15_init 52 = .ok (.aload_n 2, 1) := by decide +kernel
theorem dJ15_init_53 : decode cJ15_init 53 = .ok (.arraylength, 1) := by decide +kernel
theorem dJ15_init_54 : decode cJ15_init 54 = .ok (.if_icmp .ge 24, 3) := by decide +kernel
theorem dJ15_init_57 : decode cJ15_init 57 = .ok (.aload_n 0, 1) := by decide +kernel
theorem dJ15_init_58 : decode cJ15_init 58 = .ok (.aload_n 2, 1) := by decide +kernel
theorem dJ15_init_59 : decode cJ15_init 59 = .ok (.aload_n 0, 1) := by decide +kernel
theorem dJ15_init_60 : decode cJ15_init 60 = .ok (.dup, 1) := by decide +kernel
theorem dJ15_init_61 : decode cJ15_init 61 = .ok (.getfield 33, 3) := by decide +kernel
theorem dJ15_init_64 : decode cJ15_init 64 = .ok (.dup_x1, 1) := by decide +kernel
theorem dJ15_init_65 : decode cJ15_init 65 = .ok (.iconst 1, 1) := by decide +kernel
theorem dJ15_init_66 : decode cJ15_init 66 = .ok (.iadd, 1) := by decide +kernel
theorem dJ15_init_67 : decode cJ15_init 67 = .ok (.putfield 33, 3) := by decide +kernel
theorem dJ15_init_70 : decode cJ15_init 70 = .ok (.aaload, 1) := by decide +kernel
theorem dJ15_init_71 : decode cJ15_init 71 = .ok (.dup_x1, 1) := by decide +kernel
theorem dJ15_init_72 : decode cJ15_init 72 = .ok (.putfield 26, 3) := by decide +kernel
theorem dJ15_init_75 : decode cJ15_init 75 = .ok (.ifnull (-27), 3) := by decide +kernel
theorem dJ15_init_78 : decode cJ15_init 78 = .ok (.return_, 1) := by decide +kernel
abbrev cJ15_hasNext : ByteArray := prog_29_method_2_code
def yJ15_hasNext : MethodName := ⟨RJ15, "hasNext", "()Z"⟩
theorem dJ15_hasNext_0 : decode cJ15_hasNext 0 = .ok (.aload_n 0, 1) := by decide +kernel
theorem dJ15_hasNext_1 : decode cJ15_hasNext 1 = .ok (.getfield 26, 3) := by decide +kernel
theorem dJ15_hasNext_4 : decode cJ15_hasNext 4 = .ok (.ifnull 7, 3) := by decide +kernel
theorem dJ15_hasNext_7 : decode cJ15_hasNext 7 = .ok (.iconst 1, 1) := by decide +kernel
theorem dJ15_hasNext_8 : decode cJ15_hasNext 8 = .ok (.goto 4, 3) := by decide +kernel
theorem dJ15_hasNext_11 : decode cJ15_hasNext 11 = .ok (.iconst 0, 1) := by decide +kernel
theorem dJ15_hasNext_12 : decode cJ15_hasNext 12 = .ok (.ireturn, 1) := by decide +kernel
abbrev cJ15_nextNode : ByteArray := prog_29_method_3_code
def yJ15_nextNode : MethodName := ⟨RJ15, "nextNode", "()Ljava/util/HashMap$Node;"⟩
theorem dJ15_nextNode_0 : decode cJ15_nextNode 0 = .ok (.aload_n 0, 1) := by decide +kernel
theorem dJ15_nextNode_1 : decode cJ15_nextNode 1 = .ok (.getfield 26, 3) := by decide +kernel
theorem dJ15_nextNode_4 : decode cJ15_nextNode 4 = .ok (.astore_n 2, 1) := by decide +kernel
theorem dJ15_nextNode_5 : decode cJ15_nextNode 5 = .ok (.aload_n 0, 1) := by decide +kernel
theorem dJ15_nextNode_6 : decode cJ15_nextNode 6 = .ok (.getfield 1, 3) := by decide +kernel
theorem dJ15_nextNode_9 : decode cJ15_nextNode 9 = .ok (.getfield 13, 3) := by decide +kernel
theorem dJ15_nextNode_12 : decode cJ15_nextNode 12 = .ok (.aload_n 0, 1) := by decide +kernel
theorem dJ15_nextNode_13 : decode cJ15_nextNode 13 = .ok (.getfield 19, 3) := by decide +kernel
theorem dJ15_nextNode_16 : decode cJ15_nextNode 16 = .ok (.if_icmp .eq 11, 3) := by decide +kernel
theorem dJ15_nextNode_19 : decode cJ15_nextNode 19 = .ok (.new 39, 3) := by decide +kernel
theorem dJ15_nextNode_22 : decode cJ15_nextNode 22 = .ok (.dup, 1) := by decide +kernel
theorem dJ15_nextNode_23 : decode cJ15_nextNode 23 = .ok (.invokespecial 41, 3) := by decide +kernel
theorem dJ15_nextNode_26 : decode cJ15_nextNode 26 = .ok (.athrow, 1) := by decide +kernel
theorem dJ15_nextNode_27 : decode cJ15_nextNode 27 = .ok (.aload_n 2, 1) := by decide +kernel
theorem dJ15_nextNode_28 : decode cJ15_nextNode 28 = .ok (.ifnonnull 11, 3) := by decide +kernel
theorem dJ15_nextNode_31 : decode cJ15_nextNode 31 = .ok (.new 42, 3) := by decide +kernel
theorem dJ15_nextNode_34 : decode cJ15_nextNode 34 = .ok (.dup, 1) := by decide +kernel
theorem dJ15_nextNode_35 : decode cJ15_nextNode 35 = .ok (.invokespecial 44, 3) := by decide +kernel
theorem dJ15_nextNode_38 : decode cJ15_nextNode 38 = .ok (.athrow, 1) := by decide +kernel
theorem dJ15_nextNode_39 : decode cJ15_nextNode 39 = .ok (.aload_n 0, 1) := by decide +kernel
theorem dJ15_nextNode_40 : decode cJ15_nextNode 40 = .ok (.aload_n 0, 1) := by decide +kernel
theorem dJ15_nextNode_41 : decode cJ15_nextNode 41 = .ok (.aload_n 2, 1) := by decide +kernel
theorem dJ15_nextNode_42 : decode cJ15_nextNode 42 = .ok (.dup_x1, 1) := by decide +kernel
theorem dJ15_nextNode_43 : decode cJ15_nextNode 43 = .ok (.putfield 30, 3) := by decide +kernel
theorem dJ15_nextNode_46 : decode cJ15_nextNode 46 = .ok (.getfield 45, 3) := by decide +kernel
theorem dJ15_nextNode_49 : decode cJ15_nextNode 49 = .ok (.dup_x1, 1) := by decide +kernel
theorem dJ15_nextNode_50 : decode cJ15_nextNode 50 = .ok (.putfield 26, 3) := by decide +kernel
theorem dJ15_nextNode_53 : decode cJ15_nextNode 53 = .ok (.ifnonnull 45, 3) := by decide +kernel
theorem dJ15_nextNode_56 : decode cJ15_nextNode 56 = .ok (.aload_n 0, 1) := by decide +kernel
theorem dJ15_nextNode_57 : decode cJ15_nextNode 57 = .ok (.getfield 1, 3) := by decide +kernel
theorem dJ15_nextNode_60 : decode cJ15_nextNode 60 = .ok (.getfield 22, 3) := by decide +kernel
theorem dJ15_nextNode_63 : decode cJ15_nextNode 63 = .ok (.dup, 1) := by decide +kernel
theorem dJ15_nextNode_64 : decode cJ15_nextNode 64 = .ok (.astore_n 1, 1) := by decide +kernel
theorem dJ15_nextNode_65 : decode cJ15_nextNode 65 = .ok (.ifnull 33, 3) := by decide +kernel
theorem dJ15_nextNode_68 : decode cJ15_nextNode 68 = .ok (.aload_n 0, 1) := by decide +kernel
theorem dJ15_nextNode_69 : decode cJ15_nextNode 69 = .ok (.getfield 33, 3) := by decide +kernel
theorem dJ15_nextNode_72 : decode cJ15_nextNode 72 = .ok (.aload_n 1, 1) := by decide +kernel
theorem dJ15_nextNode_73 : decode cJ15_nextNode 73 = .ok (.arraylength, 1) := by decide +kernel
theorem dJ15_nextNode_74 : decode cJ15_nextNode 74 = .ok (.if_icmp .ge 24, 3) := by decide +kernel
theorem dJ15_nextNode_77 : decode cJ15_nextNode 77 = .ok (.aload_n 0, 1) := by decide +kernel
theorem dJ15_nextNode_78 : decode cJ15_nextNode 78 = .ok (.aload_n 1, 1) := by decide +kernel
theorem dJ15_nextNode_79 : decode cJ15_nextNode 79 = .ok (.aload_n 0, 1) := by decide +kernel
theorem dJ15_nextNode_80 : decode cJ15_nextNode 80 = .ok (.dup, 1) := by decide +kernel
theorem dJ15_nextNode_81 : decode cJ15_nextNode 81 = .ok (.getfield 33, 3) := by decide +kernel
theorem dJ15_nextNode_84 : decode cJ15_nextNode 84 = .ok (.dup_x1, 1) := by decide +kernel
theorem dJ15_nextNode_85 : decode cJ15_nextNode 85 = .ok (.iconst 1, 1) := by decide +kernel
theorem dJ15_nextNode_86 : decode cJ15_nextNode 86 = .ok (.iadd, 1) := by decide +kernel
theorem dJ15_nextNode_87 : decode cJ15_nextNode 87 = .ok (.putfield 33, 3) := by decide +kernel
theorem dJ15_nextNode_90 : decode cJ15_nextNode 90 = .ok (.aaload, 1) := by decide +kernel
theorem dJ15_nextNode_91 : decode cJ15_nextNode 91 = .ok (.dup_x1, 1) := by decide +kernel
theorem dJ15_nextNode_92 : decode cJ15_nextNode 92 = .ok (.putfield 26, 3) := by decide +kernel
theorem dJ15_nextNode_95 : decode cJ15_nextNode 95 = .ok (.ifnull (-27), 3) := by decide +kernel
theorem dJ15_nextNode_98 : decode cJ15_nextNode 98 = .ok (.aload_n 2, 1) := by decide +kernel
theorem dJ15_nextNode_99 : decode cJ15_nextNode 99 = .ok (.areturn, 1) := by decide +kernel
abbrev cJ15_remove : ByteArray := prog_29_method_4_code
def yJ15_remove : MethodName := ⟨RJ15, "remove", "()V"⟩
theorem dJ15_remove_0 : decode cJ15_remove 0 = .ok (.aload_n 0, 1) := by decide +kernel
theorem dJ15_remove_1 : decode cJ15_remove 1 = .ok (.getfield 30, 3) := by decide +kernel
theorem dJ15_remove_4 : decode cJ15_remove 4 = .ok (.astore_n 1, 1) := by decide +kernel
theorem dJ15_remove_5 : decode cJ15_remove 5 = .ok (.aload_n 1, 1) := by decide +kernel
theorem dJ15_remove_6 : decode cJ15_remove 6 = .ok (.ifnonnull 11, 3) := by decide +kernel
theorem dJ15_remove_9 : decode cJ15_remove 9 = .ok (.new 48, 3) := by decide +kernel
theorem dJ15_remove_12 : decode cJ15_remove 12 = .ok (.dup, 1) := by decide +kernel
theorem dJ15_remove_13 : decode cJ15_remove 13 = .ok (.invokespecial 50, 3) := by decide +kernel
theorem dJ15_remove_16 : decode cJ15_remove 16 = .ok (.athrow, 1) := by decide +kernel
theorem dJ15_remove_17 : decode cJ15_remove 17 = .ok (.aload_n 0, 1) := by decide +kernel
theorem dJ15_remove_18 : decode cJ15_remove 18 = .ok (.getfield 1, 3) := by decide +kernel
theorem dJ15_remove_21 : decode cJ15_remove 21 = .ok (.getfield 13, 3) := by decide +kernel
theorem dJ15_remove_24 : decode cJ15_remove 24 = .ok (.aload_n 0, 1) := by decide +kernel
theorem dJ15_remove_25 : decode cJ15_remove 25 = .ok (.getfield 19, 3) := by decide +kernel
theorem dJ15_remove_28 : decode cJ15_remove 28 = .ok (.if_icmp .eq 11, 3) := by decide +kernel
theorem dJ15_remove_31 : decode cJ15_remove 31 = .ok (.new 39, 3) := by decide +kernel
theorem dJ15_remove_34 : decode cJ15_remove 34 = .ok (.dup, 1) := by decide +kernel
theorem dJ15_remove_35 : decode cJ15_remove 35 = .ok (.invokespecial 41, 3) := by decide +kernel
theorem dJ15_remove_38 : decode cJ15_remove 38 = .ok (.athrow, 1) := by decide +kernel
theorem dJ15_remove_39 : decode cJ15_remove 39 = .ok (.aload_n 0, 1) := by decide +kernel
theorem dJ15_remove_40 : decode cJ15_remove 40 = .ok (.aconst_null, 1) := by decide +kernel
theorem dJ15_remove_41 : decode cJ15_remove 41 = .ok (.putfield 30, 3) := by decide +kernel
theorem dJ15_remove_44 : decode cJ15_remove 44 = .ok (.aload_n 0, 1) := by decide +kernel
theorem dJ15_remove_45 : decode cJ15_remove 45 = .ok (.getfield 1, 3) := by decide +kernel
theorem dJ15_remove_48 : decode cJ15_remove 48 = .ok (.aload_n 1, 1) := by decide +kernel
theorem dJ15_remove_49 : decode cJ15_remove 49 = .ok (.getfield 51, 3) := by decide +kernel
theorem dJ15_remove_52 : decode cJ15_remove 52 = .ok (.aload_n 1, 1) := by decide +kernel
theorem dJ15_remove_53 : decode cJ15_remove 53 = .ok (.getfield 54, 3) := by decide +kernel
theorem dJ15_remove_56 : decode cJ15_remove 56 = .ok (.aconst_null, 1) := by decide +kernel
theorem dJ15_remove_57 : decode cJ15_remove 57 = .ok (.iconst 0, 1) := by decide +kernel
theorem dJ15_remove_58 : decode cJ15_remove 58 = .ok (.iconst 0, 1) := by decide +kernel
theorem dJ15_remove_59 : decode cJ15_remove 59 = .ok (.invokevirtual 58, 3) := by decide +kernel
theorem dJ15_remove_62 : decode cJ15_remove 62 = .ok (.pop, 1) := by decide +kernel
theorem dJ15_remove_63 : decode cJ15_remove 63 = .ok (.aload_n 0, 1) := by decide +kernel
theorem dJ15_remove_64 : decode cJ15_remove 64 = .ok (.aload_n 0, 1) := by decide +kernel
theorem dJ15_remove_65 : decode cJ15_remove 65 = .ok (.getfield 1, 3) := by decide +kernel
theorem dJ15_remove_68 : decode cJ15_remove 68 = .ok (.getfield 13, 3) := by decide +kernel
theorem dJ15_remove_71 : decode cJ15_remove 71 = .ok (.putfield 19, 3) := by decide +kernel
theorem dJ15_remove_74 : decode cJ15_remove 74 = .ok (.return_, 1) := by decide +kernel
theorem q29 : (Jvm.Cond.initialized "java/util/HashMap$HashIterator") ∈ lw_all := lw_g (lw_at lw_m1 21 rfl) rfl
theorem q57 : (Jvm.Cond.fieldLink "java/util/HashMap$HashIterator" (22 : Nat) "java/util/HashMap" "table" "[Ljava/util/HashMap$Node;") ∈ lw_all := lw_g (lw_at lw_m1 49 rfl) rfl
theorem q62 : (Jvm.Cond.fieldLink "java/util/HashMap$HashIterator" (36 : Nat) "java/util/HashMap" "size" "I") ∈ lw_all := lw_g (lw_at lw_m1 54 rfl) rfl
theorem q69 : (Jvm.Cond.fieldLink "java/util/HashMap$HashIterator" (13 : Nat) "java/util/HashMap" "modCount" "I") ∈ lw_all := lw_g (lw_at lw_m1 61 rfl) rfl
theorem q255 : (Jvm.Cond.fieldLink "java/util/HashMap$HashIterator" (51 : Nat) "java/util/HashMap$Node" "hash" "I") ∈ lw_all := lw_g (lw_at lw_m2 7 rfl) rfl
theorem q264 : (Jvm.Cond.fieldLink "java/util/HashMap$HashIterator" (54 : Nat) "java/util/HashMap$Node" "key" "Ljava/lang/Object;") ∈ lw_all := lw_g (lw_at lw_m2 16 rfl) rfl
theorem q275 : (Jvm.Cond.fieldLink "java/util/HashMap$HashIterator" (45 : Nat) "java/util/HashMap$Node" "next" "Ljava/util/HashMap$Node;") ∈ lw_all := lw_g (lw_at lw_m2 27 rfl) rfl
theorem q682 : (Jvm.Cond.instanceMethod ({ cls := "java/util/HashMap$HashIterator", name := "<init>", desc := "(Ljava/util/HashMap;)V" } : Jvm.MethodName)) ∈ lw_all := lw_g (lw_at lw_m3 194 rfl) rfl
theorem q683 : (Jvm.Cond.code ({ cls := "java/util/HashMap$HashIterator", name := "<init>", desc := "(Ljava/util/HashMap;)V" } : Jvm.MethodName) prog_29_method_1_code (3 : Nat) (Option.none : Option Jvm.ClassFile.FieldType)) ∈ lw_all := lw_g (lw_at lw_m3 195 rfl) rfl
theorem q684 : (Jvm.Cond.methodLink "java/util/HashMap$HashIterator" (7 : Nat) ({ cls := "java/lang/Object", name := "<init>", desc := "()V" } : Jvm.MethodName)) ∈ lw_all := lw_g (lw_at lw_m3 196 rfl) rfl
theorem q685 : (Jvm.Cond.fieldLink "java/util/HashMap$HashIterator" (26 : Nat) "java/util/HashMap$HashIterator" "next" "Ljava/util/HashMap$Node;") ∈ lw_all := lw_g (lw_at lw_m3 197 rfl) rfl
theorem q686 : (Jvm.Cond.fieldLink "java/util/HashMap$HashIterator" (30 : Nat) "java/util/HashMap$HashIterator" "current" "Ljava/util/HashMap$Node;") ∈ lw_all := lw_g (lw_at lw_m3 198 rfl) rfl
theorem q687 : (Jvm.Cond.fieldLink "java/util/HashMap$HashIterator" (19 : Nat) "java/util/HashMap$HashIterator" "expectedModCount" "I") ∈ lw_all := lw_g (lw_at lw_m3 199 rfl) rfl
theorem q688 : (Jvm.Cond.fieldLink "java/util/HashMap$HashIterator" (33 : Nat) "java/util/HashMap$HashIterator" "index" "I") ∈ lw_all := lw_g (lw_at lw_m3 200 rfl) rfl
theorem q689 : (Jvm.Cond.fieldLink "java/util/HashMap$HashIterator" (1 : Nat) "java/util/HashMap$HashIterator" "this$0" "Ljava/util/HashMap;") ∈ lw_all := lw_g (lw_at lw_m3 201 rfl) rfl
theorem q691 : (Jvm.Cond.soleField "java/util/HashMap$HashIterator" "next") ∈ lw_all := lw_g (lw_at lw_m3 203 rfl) rfl
theorem q693 : (Jvm.Cond.soleField "java/util/HashMap$HashIterator" "current") ∈ lw_all := lw_g (lw_at lw_m3 205 rfl) rfl
theorem q695 : (Jvm.Cond.soleField "java/util/HashMap$HashIterator" "expectedModCount") ∈ lw_all := lw_g (lw_at lw_m3 207 rfl) rfl
theorem q697 : (Jvm.Cond.soleField "java/util/HashMap$HashIterator" "index") ∈ lw_all := lw_g (lw_at lw_m3 209 rfl) rfl
theorem q699 : (Jvm.Cond.soleField "java/util/HashMap$HashIterator" "this$0") ∈ lw_all := lw_g (lw_at lw_m3 211 rfl) rfl
theorem q775 : (Jvm.Cond.instanceMethod ({ cls := "java/util/HashMap$HashIterator", name := "hasNext", desc := "()Z" } : Jvm.MethodName)) ∈ lw_all := lw_g (lw_at lw_m4 47 rfl) rfl
theorem q776 : (Jvm.Cond.publicMethod ({ cls := "java/util/HashMap$HashIterator", name := "hasNext", desc := "()Z" } : Jvm.MethodName)) ∈ lw_tbl := lw_at lw_m4 48 rfl
theorem q777 : (Jvm.Cond.code ({ cls := "java/util/HashMap$HashIterator", name := "hasNext", desc := "()Z" } : Jvm.MethodName) prog_29_method_2_code (1 : Nat) (Option.some Jvm.ClassFile.FieldType.boolean)) ∈ lw_all := lw_g (lw_at lw_m4 49 rfl) rfl
theorem q805 : (Jvm.Cond.declares ({ cls := "java/util/HashMap$HashIterator", name := "nextNode", desc := "()Ljava/util/HashMap$Node;" } : Jvm.MethodName)) ∈ lw_tbl := lw_at lw_m4 77 rfl
theorem q807 : (Jvm.Cond.instanceMethod ({ cls := "java/util/HashMap$HashIterator", name := "nextNode", desc := "()Ljava/util/HashMap$Node;" } : Jvm.MethodName)) ∈ lw_all := lw_g (lw_at lw_m4 79 rfl) rfl
theorem q808 : (Jvm.Cond.code ({ cls := "java/util/HashMap$HashIterator", name := "nextNode", desc := "()Ljava/util/HashMap$Node;" } : Jvm.MethodName) prog_29_method_3_code (3 : Nat) (Option.some (Jvm.ClassFile.FieldType.object "java/util/HashMap$Node"))) ∈ lw_all := lw_g (lw_at lw_m4 80 rfl) rfl
theorem q1004 : (Jvm.Cond.instanceMethod ({ cls := "java/util/HashMap$HashIterator", name := "remove", desc := "()V" } : Jvm.MethodName)) ∈ lw_all := lw_g (lw_at lw_m5 36 rfl) rfl
theorem q1005 : (Jvm.Cond.publicMethod ({ cls := "java/util/HashMap$HashIterator", name := "remove", desc := "()V" } : Jvm.MethodName)) ∈ lw_tbl := lw_at lw_m5 37 rfl
theorem q1006 : (Jvm.Cond.code ({ cls := "java/util/HashMap$HashIterator", name := "remove", desc := "()V" } : Jvm.MethodName) prog_29_method_4_code (2 : Nat) (Option.none : Option Jvm.ClassFile.FieldType)) ∈ lw_all := lw_g (lw_at lw_m5 38 rfl) rfl
theorem q1007 : (Jvm.Cond.methodLink "java/util/HashMap$HashIterator" (58 : Nat) ({ cls := "java/util/HashMap", name := "removeNode", desc := "(ILjava/lang/Object;Ljava/lang/Object;ZZ)Ljava/util/HashMap$Node;" } : Jvm.MethodName)) ∈ lw_all := lw_g (lw_at lw_m5 39 rfl) rfl
set_option maxRecDepth 100000
def RJ16 : String := "java/util/HashMap$EntryIterator"
def TJ16 : u_T := fun k => match k with
  | 0 => ("java/util/HashMap$HashIterator", "next", "Ljava/util/HashMap$Node;", false)
  | 1 => ("java/util/HashMap$HashIterator", "current", "Ljava/util/HashMap$Node;", false)
  | 2 => ("java/util/HashMap$HashIterator", "expectedModCount", "I", false)
  | 3 => ("java/util/HashMap$HashIterator", "index", "I", false)
  | _ => ("java/util/HashMap$HashIterator", "this$0", "Ljava/util/HashMap;", true)
def tyJ16 : Nat → FieldType := fun k => match k with
  | 0 => .object "java/util/HashMap$Node"
  | 1 => .object "java/util/HashMap$Node"
  | 2 => .int
  | 3 => .int
  | _ => .object "java/util/HashMap"
abbrev wsJ160 : List Cond := u_ws RJ16 TJ16 5
theorem nmJ16 : ∀ a, a < 5 → ∀ b, b < 5 → a ≠ b → (TJ16 a).2.1 ≠ (TJ16 b).2.1 := by decide +kernel
theorem tyJ16_ok : ∀ k, k < 5 → parseFieldDescriptor (TJ16 k).2.2.1 = some (tyJ16 k) := by decide +kernel
abbrev cJ16_init : ByteArray := prog_27_method_1_code
def yJ16_init : MethodName := ⟨RJ16, "<init>", "(Ljava/util/HashMap;)V"⟩
theorem dJ16_init_0 : decode cJ16_init 0 = .ok (.aload_n 0, 1) := by decide +kernel
theorem dJ16_init_1 : decode cJ16_init 1 = .ok (.aload_n 1, 1) := by decide +kernel
theorem dJ16_init_2 : decode cJ16_init 2 = .ok (.invokespecial 1, 3) := by decide +kernel
theorem dJ16_init_5 : decode cJ16_init 5 = .ok (.return_, 1) := by decide +kernel
abbrev cJ16_next : ByteArray := prog_27_method_3_code
def yJ16_next : MethodName := ⟨RJ16, "next", "()Ljava/lang/Object;"⟩
theorem dJ16_next_0 : decode cJ16_next 0 = .ok (.aload_n 0, 1) := by decide +kernel
theorem dJ16_next_1 : decode cJ16_next 1 = .ok (.invokevirtual 13, 3) := by decide +kernel
theorem dJ16_next_4 : decode cJ16_next 4 = .ok (.areturn, 1) := by decide +kernel
abbrev cJ16_next_2 : ByteArray := prog_27_method_2_code
def yJ16_next_2 : MethodName := ⟨RJ16, "next", "()Ljava/util/Map$Entry;"⟩
theorem dJ16_next_2_0 : decode cJ16_next_2 0 = .ok (.aload_n 0, 1) := by decide +kernel
theorem dJ16_next_2_1 : decode cJ16_next_2 1 = .ok (.invokevirtual 7, 3) := by decide +kernel
theorem dJ16_next_2_4 : decode cJ16_next_2 4 = .ok (.areturn, 1) := by decide +kernel
theorem q30 : (Jvm.Cond.initialized "java/util/HashMap$EntryIterator") ∈ lw_all := lw_g (lw_at lw_m1 22 rfl) rfl
theorem q322 : (Jvm.Cond.selects "java/util/HashMap$EntryIterator" ({ cls := "java/lang/Object", name := "getClass", desc := "()Ljava/lang/Class;" } : Jvm.MethodName) ({ cls := "java/lang/Object", name := "getClass", desc := "()Ljava/lang/Class;" } : Jvm.MethodName)) ∈ lw_all := lw_g (lw_at lw_m2 74 rfl) rfl
theorem q677 : (Jvm.Cond.instantiable "java/util/HashMap$EntryIterator" (5 : Nat)) ∈ lw_all := lw_g (lw_at lw_m3 189 rfl) rfl
theorem q679 : (Jvm.Cond.instanceMethod ({ cls := "java/util/HashMap$EntryIterator", name := "<init>", desc := "(Ljava/util/HashMap;)V" } : Jvm.MethodName)) ∈ lw_all := lw_g (lw_at lw_m3 191 rfl) rfl
theorem q680 : (Jvm.Cond.code ({ cls := "java/util/HashMap$EntryIterator", name := "<init>", desc := "(Ljava/util/HashMap;)V" } : Jvm.MethodName) prog_27_method_1_code (2 : Nat) (Option.none : Option Jvm.ClassFile.FieldType)) ∈ lw_all := lw_g (lw_at lw_m3 192 rfl) rfl
theorem q681 : (Jvm.Cond.methodLink "java/util/HashMap$EntryIterator" (1 : Nat) ({ cls := "java/util/HashMap$HashIterator", name := "<init>", desc := "(Ljava/util/HashMap;)V" } : Jvm.MethodName)) ∈ lw_all := lw_g (lw_at lw_m3 193 rfl) rfl
theorem q690 : (Jvm.Cond.lays "java/util/HashMap$EntryIterator" "java/util/HashMap$HashIterator" "next" "Ljava/util/HashMap$Node;") ∈ lw_all := lw_g (lw_at lw_m3 202 rfl) rfl
theorem q692 : (Jvm.Cond.lays "java/util/HashMap$EntryIterator" "java/util/HashMap$HashIterator" "current" "Ljava/util/HashMap$Node;") ∈ lw_all := lw_g (lw_at lw_m3 204 rfl) rfl
theorem q694 : (Jvm.Cond.lays "java/util/HashMap$EntryIterator" "java/util/HashMap$HashIterator" "expectedModCount" "I") ∈ lw_all := lw_g (lw_at lw_m3 206 rfl) rfl
theorem q696 : (Jvm.Cond.lays "java/util/HashMap$EntryIterator" "java/util/HashMap$HashIterator" "index" "I") ∈ lw_all := lw_g (lw_at lw_m3 208 rfl) rfl
theorem q698 : (Jvm.Cond.laysFinal "java/util/HashMap$EntryIterator" "java/util/HashMap$HashIterator" "this$0" "Ljava/util/HashMap;") ∈ lw_all := lw_g (lw_at lw_m3 210 rfl) rfl
theorem q700 : (Jvm.Cond.superclass "java/util/HashMap$EntryIterator" "java/util/HashMap$HashIterator") ∈ lw_all := lw_g (lw_at lw_m3 212 rfl) rfl
theorem q772 : (Jvm.Cond.castable "java/util/HashMap$EntryIterator" "java/util/Iterator") ∈ lw_tbl := lw_at lw_m4 44 rfl
theorem q773 : (Jvm.Cond.selects "java/util/HashMap$EntryIterator" ({ cls := "java/util/Iterator", name := "hasNext", desc := "()Z" } : Jvm.MethodName) ({ cls := "java/util/HashMap$HashIterator", name := "hasNext", desc := "()Z" } : Jvm.MethodName)) ∈ lw_all := lw_g (lw_at lw_m4 45 rfl) rfl
theorem q774 : (Jvm.Cond.unhidden "java/util/HashMap$EntryIterator" "hasNext" "()Z") ∈ lw_tbl := lw_at lw_m4 46 rfl
theorem q794 : (Jvm.Cond.selects "java/util/HashMap$EntryIterator" ({ cls := "java/util/Iterator", name := "next", desc := "()Ljava/lang/Object;" } : Jvm.MethodName) ({ cls := "java/util/HashMap$EntryIterator", name := "next", desc := "()Ljava/lang/Object;" } : Jvm.MethodName)) ∈ lw_all := lw_g (lw_at lw_m4 66 rfl) rfl
theorem q795 : (Jvm.Cond.unhidden "java/util/HashMap$EntryIterator" "next" "()Ljava/lang/Object;") ∈ lw_tbl := lw_at lw_m4 67 rfl
theorem q796 : (Jvm.Cond.instanceMethod ({ cls := "java/util/HashMap$EntryIterator", name := "next", desc := "()Ljava/lang/Object;" } : Jvm.MethodName)) ∈ lw_all := lw_g (lw_at lw_m4 68 rfl) rfl
theorem q797 : (Jvm.Cond.publicMethod ({ cls := "java/util/HashMap$EntryIterator", name := "next", desc := "()Ljava/lang/Object;" } : Jvm.MethodName)) ∈ lw_tbl := lw_at lw_m4 69 rfl
theorem q798 : (Jvm.Cond.code ({ cls := "java/util/HashMap$EntryIterator", name := "next", desc := "()Ljava/lang/Object;" } : Jvm.MethodName) prog_27_method_3_code (1 : Nat) (Option.some (Jvm.ClassFile.FieldType.object "java/lang/Object"))) ∈ lw_all := lw_g (lw_at lw_m4 70 rfl) rfl
theorem q799 : (Jvm.Cond.methodLink "java/util/HashMap$EntryIterator" (13 : Nat) ({ cls := "java/util/HashMap$EntryIterator", name := "next", desc := "()Ljava/util/Map$Entry;" } : Jvm.MethodName)) ∈ lw_all := lw_g (lw_at lw_m4 71 rfl) rfl
theorem q800 : (Jvm.Cond.instanceMethod ({ cls := "java/util/HashMap$EntryIterator", name := "next", desc := "()Ljava/util/Map$Entry;" } : Jvm.MethodName)) ∈ lw_all := lw_g (lw_at lw_m4 72 rfl) rfl
theorem q801 : (Jvm.Cond.selects "java/util/HashMap$EntryIterator" ({ cls := "java/util/HashMap$EntryIterator", name := "next", desc := "()Ljava/util/Map$Entry;" } : Jvm.MethodName) ({ cls := "java/util/HashMap$EntryIterator", name := "next", desc := "()Ljava/util/Map$Entry;" } : Jvm.MethodName)) ∈ lw_all := lw_g (lw_at lw_m4 73 rfl) rfl
theorem q802 : (Jvm.Cond.code ({ cls := "java/util/HashMap$EntryIterator", name := "next", desc := "()Ljava/util/Map$Entry;" } : Jvm.MethodName) prog_27_method_2_code (1 : Nat) (Option.some (Jvm.ClassFile.FieldType.object "java/util/Map$Entry"))) ∈ lw_all := lw_g (lw_at lw_m4 74 rfl) rfl
theorem q803 : (Jvm.Cond.methodLink "java/util/HashMap$EntryIterator" (7 : Nat) ({ cls := "java/util/HashMap$EntryIterator", name := "nextNode", desc := "()Ljava/util/HashMap$Node;" } : Jvm.MethodName)) ∈ lw_all := lw_g (lw_at lw_m4 75 rfl) rfl
theorem q804 : (Jvm.Cond.sameMethod "java/util/HashMap$EntryIterator" "java/util/HashMap$HashIterator" "nextNode" "()Ljava/util/HashMap$Node;") ∈ lw_all := lw_g (lw_at lw_m4 76 rfl) rfl
theorem q806 : (Jvm.Cond.selects "java/util/HashMap$EntryIterator" ({ cls := "java/util/HashMap$EntryIterator", name := "nextNode", desc := "()Ljava/util/HashMap$Node;" } : Jvm.MethodName) ({ cls := "java/util/HashMap$HashIterator", name := "nextNode", desc := "()Ljava/util/HashMap$Node;" } : Jvm.MethodName)) ∈ lw_all := lw_g (lw_at lw_m4 78 rfl) rfl
theorem q1002 : (Jvm.Cond.selects "java/util/HashMap$EntryIterator" ({ cls := "java/util/Iterator", name := "remove", desc := "()V" } : Jvm.MethodName) ({ cls := "java/util/HashMap$HashIterator", name := "remove", desc := "()V" } : Jvm.MethodName)) ∈ lw_all := lw_g (lw_at lw_m5 34 rfl) rfl
theorem q1003 : (Jvm.Cond.unhidden "java/util/HashMap$EntryIterator" "remove" "()V") ∈ lw_tbl := lw_at lw_m5 35 rfl
theorem q1310 : (Jvm.Cond.castable "java/util/HashMap$EntryIterator" "java/lang/Object") ∈ lw_tbl := lw_at lw_m6 102 rfl
theorem in_J16 : ∀ w ∈ wsJ160, w ∈ lw_all := lw_in wsJ160 [690, 692, 694, 696, 698] (by decide +kernel) (by decide +kernel)
set_option maxRecDepth 100000
def RJ17 : String := "java/util/HashMap$KeyIterator"
def TJ17 : u_T := fun k => match k with
  | 0 => ("java/util/HashMap$HashIterator", "next", "Ljava/util/HashMap$Node;", false)
  | 1 => ("java/util/HashMap$HashIterator", "current", "Ljava/util/HashMap$Node;", false)
  | 2 => ("java/util/HashMap$HashIterator", "expectedModCount", "I", false)
  | 3 => ("java/util/HashMap$HashIterator", "index", "I", false)
  | _ => ("java/util/HashMap$HashIterator", "this$0", "Ljava/util/HashMap;", true)
def tyJ17 : Nat → FieldType := fun k => match k with
  | 0 => .object "java/util/HashMap$Node"
  | 1 => .object "java/util/HashMap$Node"
  | 2 => .int
  | 3 => .int
  | _ => .object "java/util/HashMap"
abbrev wsJ170 : List Cond := u_ws RJ17 TJ17 5
theorem nmJ17 : ∀ a, a < 5 → ∀ b, b < 5 → a ≠ b → (TJ17 a).2.1 ≠ (TJ17 b).2.1 := by decide +kernel
theorem tyJ17_ok : ∀ k, k < 5 → parseFieldDescriptor (TJ17 k).2.2.1 = some (tyJ17 k) := by decide +kernel
abbrev cJ17_init : ByteArray := prog_30_method_1_code
def yJ17_init : MethodName := ⟨RJ17, "<init>", "(Ljava/util/HashMap;)V"⟩
theorem dJ17_init_0 : decode cJ17_init 0 = .ok (.aload_n 0, 1) := by decide +kernel
theorem dJ17_init_1 : decode cJ17_init 1 = .ok (.aload_n 1, 1) := by decide +kernel
theorem dJ17_init_2 : decode cJ17_init 2 = .ok (.invokespecial 1, 3) := by decide +kernel
theorem dJ17_init_5 : decode cJ17_init 5 = .ok (.return_, 1) := by decide +kernel
abbrev cJ17_next : ByteArray := prog_30_method_2_code
def yJ17_next : MethodName := ⟨RJ17, "next", "()Ljava/lang/Object;"⟩
theorem dJ17_next_0 : decode cJ17_next 0 = .ok (.aload_n 0, 1) := by decide +kernel
theorem dJ17_next_1 : decode cJ17_next 1 = .ok (.invokevirtual 7, 3) := by decide +kernel
theorem dJ17_next_4 : decode cJ17_next 4 = .ok (.getfield 13, 3) := by decide +kernel
theorem dJ17_next_7 : decode cJ17_next 7 = .ok (.areturn, 1) := by decide +kernel
theorem q31 : (Jvm.Cond.initialized "java/util/HashMap$KeyIterator") ∈ lw_all := lw_g (lw_at lw_m1 23 rfl) rfl
theorem q261 : (Jvm.Cond.fieldLink "java/util/HashMap$KeyIterator" (13 : Nat) "java/util/HashMap$Node" "key" "Ljava/lang/Object;") ∈ lw_all := lw_g (lw_at lw_m2 13 rfl) rfl
theorem q324 : (Jvm.Cond.selects "java/util/HashMap$KeyIterator" ({ cls := "java/lang/Object", name := "getClass", desc := "()Ljava/lang/Class;" } : Jvm.MethodName) ({ cls := "java/lang/Object", name := "getClass", desc := "()Ljava/lang/Class;" } : Jvm.MethodName)) ∈ lw_all := lw_g (lw_at lw_m2 76 rfl) rfl
theorem q708 : (Jvm.Cond.instantiable "java/util/HashMap$KeyIterator" (5 : Nat)) ∈ lw_all := lw_g (lw_at lw_m3 220 rfl) rfl
theorem q710 : (Jvm.Cond.instanceMethod ({ cls := "java/util/HashMap$KeyIterator", name := "<init>", desc := "(Ljava/util/HashMap;)V" } : Jvm.MethodName)) ∈ lw_all := lw_g (lw_at lw_m3 222 rfl) rfl
theorem q711 : (Jvm.Cond.code ({ cls := "java/util/HashMap$KeyIterator", name := "<init>", desc := "(Ljava/util/HashMap;)V" } : Jvm.MethodName) prog_30_method_1_code (2 : Nat) (Option.none : Option Jvm.ClassFile.FieldType)) ∈ lw_all := lw_g (lw_at lw_m3 223 rfl) rfl
theorem q712 : (Jvm.Cond.methodLink "java/util/HashMap$KeyIterator" (1 : Nat) ({ cls := "java/util/HashMap$HashIterator", name := "<init>", desc := "(Ljava/util/HashMap;)V" } : Jvm.MethodName)) ∈ lw_all := lw_g (lw_at lw_m3 224 rfl) rfl
theorem q713 : (Jvm.Cond.lays "java/util/HashMap$KeyIterator" "java/util/HashMap$HashIterator" "next" "Ljava/util/HashMap$Node;") ∈ lw_all := lw_g (lw_at lw_m3 225 rfl) rfl
theorem q714 : (Jvm.Cond.lays "java/util/HashMap$KeyIterator" "java/util/HashMap$HashIterator" "current" "Ljava/util/HashMap$Node;") ∈ lw_all := lw_g (lw_at lw_m3 226 rfl) rfl
theorem q715 : (Jvm.Cond.lays "java/util/HashMap$KeyIterator" "java/util/HashMap$HashIterator" "expectedModCount" "I") ∈ lw_all := lw_g (lw_at lw_m3 227 rfl) rfl
theorem q716 : (Jvm.Cond.lays "java/util/HashMap$KeyIterator" "java/util/HashMap$HashIterator" "index" "I") ∈ lw_all := lw_g (lw_at lw_m3 228 rfl) rfl
theorem q717 : (Jvm.Cond.laysFinal "java/util/HashMap$KeyIterator" "java/util/HashMap$HashIterator" "this$0" "Ljava/util/HashMap;") ∈ lw_all := lw_g (lw_at lw_m3 229 rfl) rfl
theorem q718 : (Jvm.Cond.superclass "java/util/HashMap$KeyIterator" "java/util/HashMap$HashIterator") ∈ lw_all := lw_g (lw_at lw_m3 230 rfl) rfl
theorem q778 : (Jvm.Cond.castable "java/util/HashMap$KeyIterator" "java/util/Iterator") ∈ lw_tbl := lw_at lw_m4 50 rfl
theorem q779 : (Jvm.Cond.selects "java/util/HashMap$KeyIterator" ({ cls := "java/util/Iterator", name := "hasNext", desc := "()Z" } : Jvm.MethodName) ({ cls := "java/util/HashMap$HashIterator", name := "hasNext", desc := "()Z" } : Jvm.MethodName)) ∈ lw_all := lw_g (lw_at lw_m4 51 rfl) rfl
theorem q780 : (Jvm.Cond.unhidden "java/util/HashMap$KeyIterator" "hasNext" "()Z") ∈ lw_tbl := lw_at lw_m4 52 rfl
theorem q809 : (Jvm.Cond.selects "java/util/HashMap$KeyIterator" ({ cls := "java/util/Iterator", name := "next", desc := "()Ljava/lang/Object;" } : Jvm.MethodName) ({ cls := "java/util/HashMap$KeyIterator", name := "next", desc := "()Ljava/lang/Object;" } : Jvm.MethodName)) ∈ lw_all := lw_g (lw_at lw_m4 81 rfl) rfl
theorem q810 : (Jvm.Cond.unhidden "java/util/HashMap$KeyIterator" "next" "()Ljava/lang/Object;") ∈ lw_tbl := lw_at lw_m4 82 rfl
theorem q811 : (Jvm.Cond.instanceMethod ({ cls := "java/util/HashMap$KeyIterator", name := "next", desc := "()Ljava/lang/Object;" } : Jvm.MethodName)) ∈ lw_all := lw_g (lw_at lw_m4 83 rfl) rfl
theorem q812 : (Jvm.Cond.publicMethod ({ cls := "java/util/HashMap$KeyIterator", name := "next", desc := "()Ljava/lang/Object;" } : Jvm.MethodName)) ∈ lw_tbl := lw_at lw_m4 84 rfl
theorem q813 : (Jvm.Cond.code ({ cls := "java/util/HashMap$KeyIterator", name := "next", desc := "()Ljava/lang/Object;" } : Jvm.MethodName) prog_30_method_2_code (1 : Nat) (Option.some (Jvm.ClassFile.FieldType.object "java/lang/Object"))) ∈ lw_all := lw_g (lw_at lw_m4 85 rfl) rfl
theorem q814 : (Jvm.Cond.methodLink "java/util/HashMap$KeyIterator" (7 : Nat) ({ cls := "java/util/HashMap$KeyIterator", name := "nextNode", desc := "()Ljava/util/HashMap$Node;" } : Jvm.MethodName)) ∈ lw_all := lw_g (lw_at lw_m4 86 rfl) rfl
theorem q815 : (Jvm.Cond.sameMethod "java/util/HashMap$KeyIterator" "java/util/HashMap$HashIterator" "nextNode" "()Ljava/util/HashMap$Node;") ∈ lw_all := lw_g (lw_at lw_m4 87 rfl) rfl
theorem q816 : (Jvm.Cond.selects "java/util/HashMap$KeyIterator" ({ cls := "java/util/HashMap$KeyIterator", name := "nextNode", desc := "()Ljava/util/HashMap$Node;" } : Jvm.MethodName) ({ cls := "java/util/HashMap$HashIterator", name := "nextNode", desc := "()Ljava/util/HashMap$Node;" } : Jvm.MethodName)) ∈ lw_all := lw_g (lw_at lw_m4 88 rfl) rfl
theorem q1008 : (Jvm.Cond.selects "java/util/HashMap$KeyIterator" ({ cls := "java/util/Iterator", name := "remove", desc := "()V" } : Jvm.MethodName) ({ cls := "java/util/HashMap$HashIterator", name := "remove", desc := "()V" } : Jvm.MethodName)) ∈ lw_all := lw_g (lw_at lw_m5 40 rfl) rfl
theorem q1009 : (Jvm.Cond.unhidden "java/util/HashMap$KeyIterator" "remove" "()V") ∈ lw_tbl := lw_at lw_m5 41 rfl
theorem q1306 : (Jvm.Cond.castable "java/util/HashMap$KeyIterator" "java/lang/Object") ∈ lw_tbl := lw_at lw_m6 98 rfl
theorem in_J17 : ∀ w ∈ wsJ170, w ∈ lw_all := lw_in wsJ170 [713, 714, 715, 716, 717] (by decide +kernel) (by decide +kernel)
set_option maxRecDepth 100000
def RJ18 : String := "java/util/LinkedHashMap$LinkedHashIterator"
abbrev cJ18_init : ByteArray := prog_39_method_1_code
def yJ18_init : MethodName := ⟨RJ18, "<init>", "(Ljava/util/LinkedHashMap;Z)V"⟩
theorem dJ18_init_0 : decode cJ18_init 0 = .ok (.aload_n 0, 1) := by decide +kernel
theorem dJ18_init_1 : decode cJ18_init 1 = .ok (.aload_n 1, 1) := by decide +kernel
theorem dJ18_init_2 : decode cJ18_init 2 = .ok (.putfield 1, 3) := by decide +kernel
theorem dJ18_init_5 : decode cJ18_init 5 = .ok (.aload_n 0, 1) := by decide +kernel
theorem dJ18_init_6 : decode cJ18_init 6 = .ok (.invokespecial 7, 3) := by decide +kernel
theorem dJ18_init_9 : decode cJ18_init 9 = .ok (.aload_n 0, 1) := by decide +kernel
theorem dJ18_init_10 : decode cJ18_init 10 = .ok (.iload_n 2, 1) := by decide +kernel
theorem dJ18_init_11 : decode cJ18_init 11 = .ok (.putfield 13, 3) := by decide +kernel
theorem dJ18_init_14 : decode cJ18_init 14 = .ok (.aload_n 0, 1) := by decide +kernel
theorem dJ18_init_15 : decode cJ18_init 15 = .ok (.iload_n 2, 1) := by decide +kernel
theorem dJ18_init_16 : decode cJ18_init 16 = .ok (.ifCond .eq 10, 3) := by decide +kernel
theorem dJ18_init_19 : decode cJ18_init 19 = .ok (.aload_n 1, 1) := by decide +kernel
theorem dJ18_init_20 : decode cJ18_init 20 = .ok (.getfield 17, 3) := by decide +kernel
theorem dJ18_init_23 : decode cJ18_init 23 = .ok (.goto 7, 3) := by decide +kernel
theorem dJ18_init_26 : decode cJ18_init 26 = .ok (.aload_n 1, 1) := by decide +kernel
theorem dJ18_init_27 : decode cJ18_init 27 = .ok (.getfield 23, 3) := by decide +kernel
theorem dJ18_init_30 : decode cJ18_init 30 = .ok (.putfield 26, 3) := by decide +kernel
theorem dJ18_init_33 : decode cJ18_init 33 = .ok (.aload_n 0, 1) := by decide +kernel
theorem dJ18_init_34 : decode cJ18_init 34 = .ok (.aload_n 1, 1) := by decide +kernel
theorem dJ18_init_35 : decode cJ18_init 35 = .ok (.getfield 29, 3) := by decide +kernel
theorem dJ18_init_38 : decode cJ18_init 38 = .ok (.putfield 33, 3) := by decide +kernel
theorem dJ18_init_41 : decode cJ18_init 41 = .ok (.aload_n 0, 1) := by decide +kernel
theorem dJ18_init_42 : decode cJ18_init 42 = .ok (.aconst_null, 1) := by decide +kernel
theorem dJ18_init_43 : decode cJ18_init 43 = .ok (.putfield 36, 3) := by decide +kernel
theorem dJ18_init_46 : decode cJ18_init 46 = .ok (.return_, 1) := by decide +kernel
abbrev cJ18_hasNext : ByteArray := prog_39_method_2_code
def yJ18_hasNext : MethodName := ⟨RJ18, "hasNext", "()Z"⟩
theorem dJ18_hasNext_0 : decode cJ18_hasNext 0 = .ok (.aload_n 0, 1) := by decide +kernel
theorem dJ18_hasNext_1 : decode cJ18_hasNext 1 = .ok (.getfield 26, 3) := by decide +kernel
theorem dJ18_hasNext_4 : decode cJ18_hasNext 4 = .ok (.ifnull 7, 3) := by decide +kernel
theorem dJ18_hasNext_7 : decode cJ18_hasNext 7 = .ok (.iconst 1, 1) := by decide +kernel
theorem dJ18_hasNext_8 : decode cJ18_hasNext 8 = .ok (.goto 4, 3) := by decide +kernel
theorem dJ18_hasNext_11 : decode cJ18_hasNext 11 = .ok (.iconst 0, 1) := by decide +kernel
theorem dJ18_hasNext_12 : decode cJ18_hasNext 12 = .ok (.ireturn, 1) := by decide +kernel
abbrev cJ18_nextNode : ByteArray := prog_39_method_3_code
def yJ18_nextNode : MethodName := ⟨RJ18, "nextNode", "()Ljava/util/LinkedHashMap$Entry;"⟩
theorem dJ18_nextNode_0 : decode cJ18_nextNode 0 = .ok (.aload_n 0, 1) := by decide +kernel
theorem dJ18_nextNode_1 : decode cJ18_nextNode 1 = .ok (.getfield 26, 3) := by decide +kernel
theorem dJ18_nextNode_4 : decode cJ18_nextNode 4 = .ok (.astore_n 1, 1) := by decide +kernel
theorem dJ18_nextNode_5 : decode cJ18_nextNode 5 = .ok (.aload_n 0, 1) := by decide +kernel
theorem dJ18_nextNode_6 : decode cJ18_nextNode 6 = .ok (.getfield 1, 3) := by decide +kernel
theorem dJ18_nextNode_9 : decode cJ18_nextNode 9 = .ok (.getfield 29, 3) := by decide +kernel
theorem dJ18_nextNode_12 : decode cJ18_nextNode 12 = .ok (.aload_n 0, 1) := by decide +kernel
theorem dJ18_nextNode_13 : decode cJ18_nextNode 13 = .ok (.getfield 33, 3) := by decide +kernel
theorem dJ18_nextNode_16 : decode cJ18_nextNode 16 = .ok (.if_icmp .eq 11, 3) := by decide +kernel
theorem dJ18_nextNode_19 : decode cJ18_nextNode 19 = .ok (.new 39, 3) := by decide +kernel
theorem dJ18_nextNode_22 : decode cJ18_nextNode 22 = .ok (.dup, 1) := by decide +kernel
theorem dJ18_nextNode_23 : decode cJ18_nextNode 23 = .ok (.invokespecial 41, 3) := by decide +kernel
theorem dJ18_nextNode_26 : decode cJ18_nextNode 26 = .ok (.athrow, 1) := by decide +kernel
theorem dJ18_nextNode_27 : decode cJ18_nextNode 27 = .ok (.aload_n 1, 1) := by decide +kernel
theorem dJ18_nextNode_28 : decode cJ18_nextNode 28 = .ok (.ifnonnull 11, 3) := by decide +kernel
theorem dJ18_nextNode_31 : decode cJ18_nextNode 31 = .ok (.new 42, 3) := by decide +kernel
theorem dJ18_nextNode_34 : decode cJ18_nextNode 34 = .ok (.dup, 1) := by decide +kernel
theorem dJ18_nextNode_35 : decode cJ18_nextNode 35 = .ok (.invokespecial 44, 3) := by decide +kernel
theorem dJ18_nextNode_38 : decode cJ18_nextNode 38 = .ok (.athrow, 1) := by decide +kernel
theorem dJ18_nextNode_39 : decode cJ18_nextNode 39 = .ok (.aload_n 0, 1) := by decide +kernel
theorem dJ18_nextNode_40 : decode cJ18_nextNode 40 = .ok (.aload_n 1, 1) := by decide +kernel
theorem dJ18_nextNode_41 : decode cJ18_nextNode 41 = .ok (.putfield 36, 3) := by decide +kernel
theorem dJ18_nextNode_44 : decode cJ18_nextNode 44 = .ok (.aload_n 0, 1) := by decide +kernel
theorem dJ18_nextNode_45 : decode cJ18_nextNode 45 = .ok (.aload_n 0, 1) := by decide +kernel
theorem dJ18_nextNode_46 : decode cJ18_nextNode 46 = .ok (.getfield 13, 3) := by decide +kernel
theorem dJ18_nextNode_49 : decode cJ18_nextNode 49 = .ok (.ifCond .eq 10, 3) := by decide +kernel
theorem dJ18_nextNode_52 : decode cJ18_nextNode 52 = .ok (.aload_n 1, 1) := by decide +kernel
theorem dJ18_nextNode_53 : decode cJ18_nextNode 53 = .ok (.getfield 45, 3) := by decide +kernel
theorem dJ18_nextNode_56 : decode cJ18_nextNode 56 = .ok (.goto 7, 3) := by decide +kernel
theorem dJ18_nextNode_59 : decode cJ18_nextNode 59 = .ok (.aload_n 1, 1) := by decide +kernel
theorem dJ18_nextNode_60 : decode cJ18_nextNode 60 = .ok (.getfield 50, 3) := by decide +kernel
theorem dJ18_nextNode_63 : decode cJ18_nextNode 63 = .ok (.putfield 26, 3) := by decide +kernel
theorem dJ18_nextNode_66 : decode cJ18_nextNode 66 = .ok (.aload_n 1, 1) := by decide +kernel
theorem dJ18_nextNode_67 : decode cJ18_nextNode 67 = .ok (.areturn, 1) := by decide +kernel
abbrev cJ18_remove : ByteArray := prog_39_method_4_code
def yJ18_remove : MethodName := ⟨RJ18, "remove", "()V"⟩
theorem dJ18_remove_0 : decode cJ18_remove 0 = .ok (.aload_n 0, 1) := by decide +kernel
theorem dJ18_remove_1 : decode cJ18_remove 1 = .ok (.getfield 36, 3) := by decide +kernel
theorem dJ18_remove_4 : decode cJ18_remove 4 = .ok (.astore_n 1, 1) := by decide +kernel
theorem dJ18_remove_5 : decode cJ18_remove 5 = .ok (.aload_n 1, 1) := by decide +kernel
theorem dJ18_remove_6 : decode cJ18_remove 6 = .ok (.ifnonnull 11, 3) := by decide +kernel
theorem dJ18_remove_9 : decode cJ18_remove 9 = .ok (.new 53, 3) := by decide +kernel
theorem dJ18_remove_12 : decode cJ18_remove 12 = .ok (.dup, 1) := by decide +kernel
theorem dJ18_remove_13 : decode cJ18_remove 13 = .ok (.invokespecial 55, 3) := by decide +kernel
theorem dJ18_remove_16 : decode cJ18_remove 16 = .ok (.athrow, 1) := by decide +kernel
theorem dJ18_remove_17 : decode cJ18_remove 17 = .ok (.aload_n 0, 1) := by decide +kernel
theorem dJ18_remove_18 : decode cJ18_remove 18 = .ok (.getfield 1, 3) := by decide +kernel
theorem dJ18_remove_21 : decode cJ18_remove 21 = .ok (.getfield 29, 3) := by decide +kernel
theorem dJ18_remove_24 : decode cJ18_remove 24 = .ok (.aload_n 0, 1) := by decide +kernel
theorem dJ18_remove_25 : decode cJ18_remove 25 = .ok (.getfield 33, 3) := by decide +kernel
theorem dJ18_remove_28 : decode cJ18_remove 28 = .ok (.if_icmp .eq 11, 3) := by decide +kernel
theorem dJ18_remove_31 : decode cJ18_remove 31 = .ok (.new 39, 3) := by decide +kernel
theorem dJ18_remove_34 : decode cJ18_remove 34 = .ok (.dup, 1) := by decide +kernel
theorem dJ18_remove_35 : decode cJ18_remove 35 = .ok (.invokespecial 41, 3) := by decide +kernel
theorem dJ18_remove_38 : decode cJ18_remove 38 = .ok (.athrow, 1) := by decide +kernel
theorem dJ18_remove_39 : decode cJ18_remove 39 = .ok (.aload_n 0, 1) := by decide +kernel
theorem dJ18_remove_40 : decode cJ18_remove 40 = .ok (.aconst_null, 1) := by decide +kernel
theorem dJ18_remove_41 : decode cJ18_remove 41 = .ok (.putfield 36, 3) := by decide +kernel
theorem dJ18_remove_44 : decode cJ18_remove 44 = .ok (.aload_n 0, 1) := by decide +kernel
theorem dJ18_remove_45 : decode cJ18_remove 45 = .ok (.getfield 1, 3) := by decide +kernel
theorem dJ18_remove_48 : decode cJ18_remove 48 = .ok (.aload_n 1, 1) := by decide +kernel
theorem dJ18_remove_49 : decode cJ18_remove 49 = .ok (.getfield 56, 3) := by decide +kernel
theorem dJ18_remove_52 : decode cJ18_remove 52 = .ok (.aload_n 1, 1) := by decide +kernel
theorem dJ18_remove_53 : decode cJ18_remove 53 = .ok (.getfield 61, 3) := by decide +kernel
theorem dJ18_remove_56 : decode cJ18_remove 56 = .ok (.aconst_null, 1) := by decide +kernel
theorem dJ18_remove_57 : decode cJ18_remove 57 = .ok (.iconst 0, 1) := by decide +kernel
theorem dJ18_remove_58 : decode cJ18_remove 58 = .ok (.iconst 0, 1) := by decide +kernel
theorem dJ18_remove_59 : decode cJ18_remove 59 = .ok (.invokevirtual 65, 3) := by decide +kernel
theorem dJ18_remove_62 : decode cJ18_remove 62 = .ok (.pop, 1) := by decide +kernel
theorem dJ18_remove_63 : decode cJ18_remove 63 = .ok (.aload_n 0, 1) := by decide +kernel
theorem dJ18_remove_64 : decode cJ18_remove 64 = .ok (.aload_n 0, 1) := by decide +kernel
theorem dJ18_remove_65 : decode cJ18_remove 65 = .ok (.getfield 1, 3) := by decide +kernel
theorem dJ18_remove_68 : decode cJ18_remove 68 = .ok (.getfield 29, 3) := by decide +kernel
theorem dJ18_remove_71 : decode cJ18_remove 71 = .ok (.putfield 33, 3) := by decide +kernel
theorem dJ18_remove_74 : decode cJ18_remove 74 = .ok (.return_, 1) := by decide +kernel
theorem q32 : (Jvm.Cond.initialized "java/util/LinkedHashMap$LinkedHashIterator") ∈ lw_all := lw_g (lw_at lw_m1 24 rfl) rfl
theorem q70 : (Jvm.Cond.fieldLink "java/util/LinkedHashMap$LinkedHashIterator" (29 : Nat) "java/util/LinkedHashMap" "modCount" "I") ∈ lw_all := lw_g (lw_at lw_m1 62 rfl) rfl
theorem q104 : (Jvm.Cond.fieldLink "java/util/LinkedHashMap$LinkedHashIterator" (23 : Nat) "java/util/LinkedHashMap" "head" "Ljava/util/LinkedHashMap$Entry;") ∈ lw_all := lw_g (lw_at lw_m1 96 rfl) rfl
theorem q105 : (Jvm.Cond.fieldLink "java/util/LinkedHashMap$LinkedHashIterator" (17 : Nat) "java/util/LinkedHashMap" "tail" "Ljava/util/LinkedHashMap$Entry;") ∈ lw_all := lw_g (lw_at lw_m1 97 rfl) rfl
theorem q249 : (Jvm.Cond.fieldLink "java/util/LinkedHashMap$LinkedHashIterator" (45 : Nat) "java/util/LinkedHashMap$Entry" "before" "Ljava/util/LinkedHashMap$Entry;") ∈ lw_all := lw_g (lw_at lw_m2 1 rfl) rfl
theorem q251 : (Jvm.Cond.fieldLink "java/util/LinkedHashMap$LinkedHashIterator" (50 : Nat) "java/util/LinkedHashMap$Entry" "after" "Ljava/util/LinkedHashMap$Entry;") ∈ lw_all := lw_g (lw_at lw_m2 3 rfl) rfl
theorem q256 : (Jvm.Cond.fieldLink "java/util/LinkedHashMap$LinkedHashIterator" (56 : Nat) "java/util/HashMap$Node" "hash" "I") ∈ lw_all := lw_g (lw_at lw_m2 8 rfl) rfl
theorem q265 : (Jvm.Cond.fieldLink "java/util/LinkedHashMap$LinkedHashIterator" (61 : Nat) "java/util/HashMap$Node" "key" "Ljava/lang/Object;") ∈ lw_all := lw_g (lw_at lw_m2 17 rfl) rfl
theorem q731 : (Jvm.Cond.instanceMethod ({ cls := "java/util/LinkedHashMap$LinkedHashIterator", name := "<init>", desc := "(Ljava/util/LinkedHashMap;Z)V" } : Jvm.MethodName)) ∈ lw_all := lw_g (lw_at lw_m4 3 rfl) rfl
theorem q732 : (Jvm.Cond.code ({ cls := "java/util/LinkedHashMap$LinkedHashIterator", name := "<init>", desc := "(Ljava/util/LinkedHashMap;Z)V" } : Jvm.MethodName) prog_39_method_1_code (3 : Nat) (Option.none : Option Jvm.ClassFile.FieldType)) ∈ lw_all := lw_g (lw_at lw_m4 4 rfl) rfl
theorem q733 : (Jvm.Cond.methodLink "java/util/LinkedHashMap$LinkedHashIterator" (7 : Nat) ({ cls := "java/lang/Object", name := "<init>", desc := "()V" } : Jvm.MethodName)) ∈ lw_all := lw_g (lw_at lw_m4 5 rfl) rfl
theorem q734 : (Jvm.Cond.fieldLink "java/util/LinkedHashMap$LinkedHashIterator" (26 : Nat) "java/util/LinkedHashMap$LinkedHashIterator" "next" "Ljava/util/LinkedHashMap$Entry;") ∈ lw_all := lw_g (lw_at lw_m4 6 rfl) rfl
theorem q735 : (Jvm.Cond.fieldLink "java/util/LinkedHashMap$LinkedHashIterator" (36 : Nat) "java/util/LinkedHashMap$LinkedHashIterator" "current" "Ljava/util/LinkedHashMap$Entry;") ∈ lw_all := lw_g (lw_at lw_m4 7 rfl) rfl
theorem q736 : (Jvm.Cond.fieldLink "java/util/LinkedHashMap$LinkedHashIterator" (33 : Nat) "java/util/LinkedHashMap$LinkedHashIterator" "expectedModCount" "I") ∈ lw_all := lw_g (lw_at lw_m4 8 rfl) rfl
theorem q737 : (Jvm.Cond.fieldLink "java/util/LinkedHashMap$LinkedHashIterator" (13 : Nat) "java/util/LinkedHashMap$LinkedHashIterator" "reversed" "Z") ∈ lw_all := lw_g (lw_at lw_m4 9 rfl) rfl
theorem q738 : (Jvm.Cond.fieldLink "java/util/LinkedHashMap$LinkedHashIterator" (1 : Nat) "java/util/LinkedHashMap$LinkedHashIterator" "this$0" "Ljava/util/LinkedHashMap;") ∈ lw_all := lw_g (lw_at lw_m4 10 rfl) rfl
theorem q740 : (Jvm.Cond.soleField "java/util/LinkedHashMap$LinkedHashIterator" "next") ∈ lw_all := lw_g (lw_at lw_m4 12 rfl) rfl
theorem q742 : (Jvm.Cond.soleField "java/util/LinkedHashMap$LinkedHashIterator" "current") ∈ lw_all := lw_g (lw_at lw_m4 14 rfl) rfl
theorem q744 : (Jvm.Cond.soleField "java/util/LinkedHashMap$LinkedHashIterator" "expectedModCount") ∈ lw_all := lw_g (lw_at lw_m4 16 rfl) rfl
theorem q746 : (Jvm.Cond.soleField "java/util/LinkedHashMap$LinkedHashIterator" "reversed") ∈ lw_all := lw_g (lw_at lw_m4 18 rfl) rfl
theorem q748 : (Jvm.Cond.soleField "java/util/LinkedHashMap$LinkedHashIterator" "this$0") ∈ lw_all := lw_g (lw_at lw_m4 20 rfl) rfl
theorem q784 : (Jvm.Cond.instanceMethod ({ cls := "java/util/LinkedHashMap$LinkedHashIterator", name := "hasNext", desc := "()Z" } : Jvm.MethodName)) ∈ lw_all := lw_g (lw_at lw_m4 56 rfl) rfl
theorem q785 : (Jvm.Cond.publicMethod ({ cls := "java/util/LinkedHashMap$LinkedHashIterator", name := "hasNext", desc := "()Z" } : Jvm.MethodName)) ∈ lw_tbl := lw_at lw_m4 57 rfl
theorem q786 : (Jvm.Cond.code ({ cls := "java/util/LinkedHashMap$LinkedHashIterator", name := "hasNext", desc := "()Z" } : Jvm.MethodName) prog_39_method_2_code (1 : Nat) (Option.some Jvm.ClassFile.FieldType.boolean)) ∈ lw_all := lw_g (lw_at lw_m4 58 rfl) rfl
theorem q828 : (Jvm.Cond.declares ({ cls := "java/util/LinkedHashMap$LinkedHashIterator", name := "nextNode", desc := "()Ljava/util/LinkedHashMap$Entry;" } : Jvm.MethodName)) ∈ lw_tbl := lw_at lw_m4 100 rfl
theorem q830 : (Jvm.Cond.instanceMethod ({ cls := "java/util/LinkedHashMap$LinkedHashIterator", name := "nextNode", desc := "()Ljava/util/LinkedHashMap$Entry;" } : Jvm.MethodName)) ∈ lw_all := lw_g (lw_at lw_m4 102 rfl) rfl
theorem q831 : (Jvm.Cond.code ({ cls := "java/util/LinkedHashMap$LinkedHashIterator", name := "nextNode", desc := "()Ljava/util/LinkedHashMap$Entry;" } : Jvm.MethodName) prog_39_method_3_code (2 : Nat) (Option.some (Jvm.ClassFile.FieldType.object "java/util/LinkedHashMap$Entry"))) ∈ lw_all := lw_g (lw_at lw_m4 103 rfl) rfl
theorem q1012 : (Jvm.Cond.instanceMethod ({ cls := "java/util/LinkedHashMap$LinkedHashIterator", name := "remove", desc := "()V" } : Jvm.MethodName)) ∈ lw_all := lw_g (lw_at lw_m5 44 rfl) rfl
theorem q1013 : (Jvm.Cond.publicMethod ({ cls := "java/util/LinkedHashMap$LinkedHashIterator", name := "remove", desc := "()V" } : Jvm.MethodName)) ∈ lw_tbl := lw_at lw_m5 45 rfl
theorem q1014 : (Jvm.Cond.code ({ cls := "java/util/LinkedHashMap$LinkedHashIterator", name := "remove", desc := "()V" } : Jvm.MethodName) prog_39_method_4_code (2 : Nat) (Option.none : Option Jvm.ClassFile.FieldType)) ∈ lw_all := lw_g (lw_at lw_m5 46 rfl) rfl
theorem q1015 : (Jvm.Cond.methodLink "java/util/LinkedHashMap$LinkedHashIterator" (65 : Nat) ({ cls := "java/util/LinkedHashMap", name := "removeNode", desc := "(ILjava/lang/Object;Ljava/lang/Object;ZZ)Ljava/util/HashMap$Node;" } : Jvm.MethodName)) ∈ lw_all := lw_g (lw_at lw_m5 47 rfl) rfl
set_option maxRecDepth 100000
def RJ19 : String := "java/util/LinkedHashMap$LinkedEntryIterator"
def TJ19 : u_T := fun k => match k with
  | 0 => ("java/util/LinkedHashMap$LinkedHashIterator", "next", "Ljava/util/LinkedHashMap$Entry;", false)
  | 1 => ("java/util/LinkedHashMap$LinkedHashIterator", "current", "Ljava/util/LinkedHashMap$Entry;", false)
  | 2 => ("java/util/LinkedHashMap$LinkedHashIterator", "expectedModCount", "I", false)
  | 3 => ("java/util/LinkedHashMap$LinkedHashIterator", "reversed", "Z", false)
  | _ => ("java/util/LinkedHashMap$LinkedHashIterator", "this$0", "Ljava/util/LinkedHashMap;", true)
def tyJ19 : Nat → FieldType := fun k => match k with
  | 0 => .object "java/util/LinkedHashMap$Entry"
  | 1 => .object "java/util/LinkedHashMap$Entry"
  | 2 => .int
  | 3 => .boolean
  | _ => .object "java/util/LinkedHashMap"
abbrev wsJ190 : List Cond := u_ws RJ19 TJ19 5
theorem nmJ19 : ∀ a, a < 5 → ∀ b, b < 5 → a ≠ b → (TJ19 a).2.1 ≠ (TJ19 b).2.1 := by decide +kernel
theorem tyJ19_ok : ∀ k, k < 5 → parseFieldDescriptor (TJ19 k).2.2.1 = some (tyJ19 k) := by decide +kernel
abbrev cJ19_init : ByteArray := prog_37_method_1_code
def yJ19_init : MethodName := ⟨RJ19, "<init>", "(Ljava/util/LinkedHashMap;Z)V"⟩
theorem dJ19_init_0 : decode cJ19_init 0 = .ok (.aload_n 0, 1) := by decide +kernel
theorem dJ19_init_1 : decode cJ19_init 1 = .ok (.aload_n 1, 1) := by decide +kernel
theorem dJ19_init_2 : decode cJ19_init 2 = .ok (.iload_n 2, 1) := by decide +kernel
theorem dJ19_init_3 : decode cJ19_init 3 = .ok (.invokespecial 1, 3) := by decide +kernel
theorem dJ19_init_6 : decode cJ19_init 6 = .ok (.return_, 1) := by decide +kernel
abbrev cJ19_next : ByteArray := prog_37_method_3_code
def yJ19_next : MethodName := ⟨RJ19, "next", "()Ljava/lang/Object;"⟩
theorem dJ19_next_0 : decode cJ19_next 0 = .ok (.aload_n 0, 1) := by decide +kernel
theorem dJ19_next_1 : decode cJ19_next 1 = .ok (.invokevirtual 13, 3) := by decide +kernel
theorem dJ19_next_4 : decode cJ19_next 4 = .ok (.areturn, 1) := by decide +kernel
abbrev cJ19_next_2 : ByteArray := prog_37_method_2_code
def yJ19_next_2 : MethodName := ⟨RJ19, "next", "()Ljava/util/Map$Entry;"⟩
theorem dJ19_next_2_0 : decode cJ19_next_2 0 = .ok (.aload_n 0, 1) := by decide +kernel
theorem dJ19_next_2_1 : decode cJ19_next_2 1 = .ok (.invokevirtual 7, 3) := by decide +kernel
theorem dJ19_next_2_4 : decode cJ19_next_2 4 = .ok (.areturn, 1) := by decide +kernel
theorem q33 : (Jvm.Cond.initialized "java/util/LinkedHashMap$LinkedEntryIterator") ∈ lw_all := lw_g (lw_at lw_m1 25 rfl) rfl
theorem q330 : (Jvm.Cond.selects "java/util/LinkedHashMap$LinkedEntryIterator" ({ cls := "java/lang/Object", name := "getClass", desc := "()Ljava/lang/Class;" } : Jvm.MethodName) ({ cls := "java/lang/Object", name := "getClass", desc := "()Ljava/lang/Class;" } : Jvm.MethodName)) ∈ lw_all := lw_g (lw_at lw_m2 82 rfl) rfl
theorem q726 : (Jvm.Cond.instantiable "java/util/LinkedHashMap$LinkedEntryIterator" (5 : Nat)) ∈ lw_all := lw_g (lw_at lw_m3 238 rfl) rfl
theorem q728 : (Jvm.Cond.instanceMethod ({ cls := "java/util/LinkedHashMap$LinkedEntryIterator", name := "<init>", desc := "(Ljava/util/LinkedHashMap;Z)V" } : Jvm.MethodName)) ∈ lw_all := lw_g (lw_at lw_m4 0 rfl) rfl
theorem q729 : (Jvm.Cond.code ({ cls := "java/util/LinkedHashMap$LinkedEntryIterator", name := "<init>", desc := "(Ljava/util/LinkedHashMap;Z)V" } : Jvm.MethodName) prog_37_method_1_code (3 : Nat) (Option.none : Option Jvm.ClassFile.FieldType)) ∈ lw_all := lw_g (lw_at lw_m4 1 rfl) rfl
theorem q730 : (Jvm.Cond.methodLink "java/util/LinkedHashMap$LinkedEntryIterator" (1 : Nat) ({ cls := "java/util/LinkedHashMap$LinkedHashIterator", name := "<init>", desc := "(Ljava/util/LinkedHashMap;Z)V" } : Jvm.MethodName)) ∈ lw_all := lw_g (lw_at lw_m4 2 rfl) rfl
theorem q739 : (Jvm.Cond.lays "java/util/LinkedHashMap$LinkedEntryIterator" "java/util/LinkedHashMap$LinkedHashIterator" "next" "Ljava/util/LinkedHashMap$Entry;") ∈ lw_all := lw_g (lw_at lw_m4 11 rfl) rfl
theorem q741 : (Jvm.Cond.lays "java/util/LinkedHashMap$LinkedEntryIterator" "java/util/LinkedHashMap$LinkedHashIterator" "current" "Ljava/util/LinkedHashMap$Entry;") ∈ lw_all := lw_g (lw_at lw_m4 13 rfl) rfl
theorem q743 : (Jvm.Cond.lays "java/util/LinkedHashMap$LinkedEntryIterator" "java/util/LinkedHashMap$LinkedHashIterator" "expectedModCount" "I") ∈ lw_all := lw_g (lw_at lw_m4 15 rfl) rfl
theorem q745 : (Jvm.Cond.lays "java/util/LinkedHashMap$LinkedEntryIterator" "java/util/LinkedHashMap$LinkedHashIterator" "reversed" "Z") ∈ lw_all := lw_g (lw_at lw_m4 17 rfl) rfl
theorem q747 : (Jvm.Cond.laysFinal "java/util/LinkedHashMap$LinkedEntryIterator" "java/util/LinkedHashMap$LinkedHashIterator" "this$0" "Ljava/util/LinkedHashMap;") ∈ lw_all := lw_g (lw_at lw_m4 19 rfl) rfl
theorem q749 : (Jvm.Cond.superclass "java/util/LinkedHashMap$LinkedEntryIterator" "java/util/LinkedHashMap$LinkedHashIterator") ∈ lw_all := lw_g (lw_at lw_m4 21 rfl) rfl
theorem q781 : (Jvm.Cond.castable "java/util/LinkedHashMap$LinkedEntryIterator" "java/util/Iterator") ∈ lw_tbl := lw_at lw_m4 53 rfl
theorem q782 : (Jvm.Cond.selects "java/util/LinkedHashMap$LinkedEntryIterator" ({ cls := "java/util/Iterator", name := "hasNext", desc := "()Z" } : Jvm.MethodName) ({ cls := "java/util/LinkedHashMap$LinkedHashIterator", name := "hasNext", desc := "()Z" } : Jvm.MethodName)) ∈ lw_all := lw_g (lw_at lw_m4 54 rfl) rfl
theorem q783 : (Jvm.Cond.unhidden "java/util/LinkedHashMap$LinkedEntryIterator" "hasNext" "()Z") ∈ lw_tbl := lw_at lw_m4 55 rfl
theorem q817 : (Jvm.Cond.selects "java/util/LinkedHashMap$LinkedEntryIterator" ({ cls := "java/util/Iterator", name := "next", desc := "()Ljava/lang/Object;" } : Jvm.MethodName) ({ cls := "java/util/LinkedHashMap$LinkedEntryIterator", name := "next", desc := "()Ljava/lang/Object;" } : Jvm.MethodName)) ∈ lw_all := lw_g (lw_at lw_m4 89 rfl) rfl
theorem q818 : (Jvm.Cond.unhidden "java/util/LinkedHashMap$LinkedEntryIterator" "next" "()Ljava/lang/Object;") ∈ lw_tbl := lw_at lw_m4 90 rfl
theorem q819 : (Jvm.Cond.instanceMethod ({ cls := "java/util/LinkedHashMap$LinkedEntryIterator", name := "next", desc := "()Ljava/lang/Object;" } : Jvm.MethodName)) ∈ lw_all := lw_g (lw_at lw_m4 91 rfl) rfl
theorem q820 : (Jvm.Cond.publicMethod ({ cls := "java/util/LinkedHashMap$LinkedEntryIterator", name := "next", desc := "()Ljava/lang/Object;" } : Jvm.MethodName)) ∈ lw_tbl := lw_at lw_m4 92 rfl
theorem q821 : (Jvm.Cond.code ({ cls := "java/util/LinkedHashMap$LinkedEntryIterator", name := "next", desc := "()Ljava/lang/Object;" } : Jvm.MethodName) prog_37_method_3_code (1 : Nat) (Option.some (Jvm.ClassFile.FieldType.object "java/lang/Object"))) ∈ lw_all := lw_g (lw_at lw_m4 93 rfl) rfl
theorem q822 : (Jvm.Cond.methodLink "java/util/LinkedHashMap$LinkedEntryIterator" (13 : Nat) ({ cls := "java/util/LinkedHashMap$LinkedEntryIterator", name := "next", desc := "()Ljava/util/Map$Entry;" } : Jvm.MethodName)) ∈ lw_all := lw_g (lw_at lw_m4 94 rfl) rfl
theorem q823 : (Jvm.Cond.instanceMethod ({ cls := "java/util/LinkedHashMap$LinkedEntryIterator", name := "next", desc := "()Ljava/util/Map$Entry;" } : Jvm.MethodName)) ∈ lw_all := lw_g (lw_at lw_m4 95 rfl) rfl
theorem q824 : (Jvm.Cond.selects "java/util/LinkedHashMap$LinkedEntryIterator" ({ cls := "java/util/LinkedHashMap$LinkedEntryIterator", name := "next", desc := "()Ljava/util/Map$Entry;" } : Jvm.MethodName) ({ cls := "java/util/LinkedHashMap$LinkedEntryIterator", name := "next", desc := "()Ljava/util/Map$Entry;" } : Jvm.MethodName)) ∈ lw_all := lw_g (lw_at lw_m4 96 rfl) rfl
theorem q825 : (Jvm.Cond.code ({ cls := "java/util/LinkedHashMap$LinkedEntryIterator", name := "next", desc := "()Ljava/util/Map$Entry;" } : Jvm.MethodName) prog_37_method_2_code (1 : Nat) (Option.some (Jvm.ClassFile.FieldType.object "java/util/Map$Entry"))) ∈ lw_all := lw_g (lw_at lw_m4 97 rfl) rfl
theorem q826 : (Jvm.Cond.methodLink "java/util/LinkedHashMap$LinkedEntryIterator" (7 : Nat) ({ cls := "java/util/LinkedHashMap$LinkedEntryIterator", name := "nextNode", desc := "()Ljava/util/LinkedHashMap$Entry;" } : Jvm.MethodName)) ∈ lw_all := lw_g (lw_at lw_m4 98 rfl) rfl
theorem q827 : (Jvm.Cond.sameMethod "java/util/LinkedHashMap$LinkedEntryIterator" "java/util/LinkedHashMap$LinkedHashIterator" "nextNode" "()Ljava/util/LinkedHashMap$Entry;") ∈ lw_all := lw_g (lw_at lw_m4 99 rfl) rfl
theorem q829 : (Jvm.Cond.selects "java/util/LinkedHashMap$LinkedEntryIterator" ({ cls := "java/util/LinkedHashMap$LinkedEntryIterator", name := "nextNode", desc := "()Ljava/util/LinkedHashMap$Entry;" } : Jvm.MethodName) ({ cls := "java/util/LinkedHashMap$LinkedHashIterator", name := "nextNode", desc := "()Ljava/util/LinkedHashMap$Entry;" } : Jvm.MethodName)) ∈ lw_all := lw_g (lw_at lw_m4 101 rfl) rfl
theorem q1010 : (Jvm.Cond.selects "java/util/LinkedHashMap$LinkedEntryIterator" ({ cls := "java/util/Iterator", name := "remove", desc := "()V" } : Jvm.MethodName) ({ cls := "java/util/LinkedHashMap$LinkedHashIterator", name := "remove", desc := "()V" } : Jvm.MethodName)) ∈ lw_all := lw_g (lw_at lw_m5 42 rfl) rfl
theorem q1011 : (Jvm.Cond.unhidden "java/util/LinkedHashMap$LinkedEntryIterator" "remove" "()V") ∈ lw_tbl := lw_at lw_m5 43 rfl
theorem q1311 : (Jvm.Cond.castable "java/util/LinkedHashMap$LinkedEntryIterator" "java/lang/Object") ∈ lw_tbl := lw_at lw_m6 103 rfl
theorem in_J19 : ∀ w ∈ wsJ190, w ∈ lw_all := lw_in wsJ190 [739, 741, 743, 745, 747] (by decide +kernel) (by decide +kernel)
set_option maxRecDepth 100000
def RJ21 : String := "java/lang/StrictMath"
abbrev cJ21_ceil : ByteArray := prog_15_method_16_code
def yJ21_ceil : MethodName := ⟨RJ21, "ceil", "(D)D"⟩
theorem dJ21_ceil_0 : decode cJ21_ceil 0 = .ok (.dload_n 0, 1) := by decide +kernel
theorem dJ21_ceil_1 : decode cJ21_ceil 1 = .ok (.ldc2_w 58, 3) := by decide +kernel
theorem dJ21_ceil_4 : decode cJ21_ceil 4 = .ok (.dconst 1, 1) := by decide +kernel
theorem dJ21_ceil_5 : decode cJ21_ceil 5 = .ok (.dconst 1, 1) := by decide +kernel
theorem dJ21_ceil_6 : decode cJ21_ceil 6 = .ok (.invokestatic 60, 3) := by decide +kernel
theorem dJ21_ceil_9 : decode cJ21_ceil 9 = .ok (.dreturn, 1) := by decide +kernel
abbrev cJ21_floorOrCeil : ByteArray := prog_15_method_18_code
def yJ21_floorOrCeil : MethodName := ⟨RJ21, "floorOrCeil", "(DDDD)D"⟩
theorem dJ21_floorOrCeil_0 : decode cJ21_floorOrCeil 0 = .ok (.dload_n 0, 1) := by decide +kernel
theorem dJ21_floorOrCeil_1 : decode cJ21_floorOrCeil 1 = .ok (.invokestatic 66, 3) := by decide +kernel
theorem dJ21_floorOrCeil_4 : decode cJ21_floorOrCeil 4 = .ok (.istore 8, 2) := by decide +kernel
theorem dJ21_floorOrCeil_6 : decode cJ21_floorOrCeil 6 = .ok (.iload 8, 2) := by decide +kernel
theorem dJ21_floorOrCeil_8 : decode cJ21_floorOrCeil 8 = .ok (.ifCond .ge 26, 3) := by decide +kernel
theorem dJ21_floorOrCeil_11 : decode cJ21_floorOrCeil 11 = .ok (.dload_n 0, 1) := by decide +kernel
theorem dJ21_floorOrCeil_12 : decode cJ21_floorOrCeil 12 = .ok (.dconst 0, 1) := by decide +kernel
theorem dJ21_floorOrCeil_13 : decode cJ21_floorOrCeil 13 = .ok (.dcmp .l, 1) := by decide +kernel
theorem dJ21_floorOrCeil_14 : decode cJ21_floorOrCeil 14 = .ok (.ifCond .ne 7, 3) := by decide +kernel
theorem dJ21_floorOrCeil_17 : decode cJ21_floorOrCeil 17 = .ok (.dload_n 0, 1) := by decide +kernel
theorem dJ21_floorOrCeil_18 : decode cJ21_floorOrCeil 18 = .ok (.goto 15, 3) := by decide +kernel
theorem dJ21_floorOrCeil_21 : decode cJ21_floorOrCeil 21 = .ok (.dload_n 0, 1) := by decide +kernel
theorem dJ21_floorOrCeil_22 : decode cJ21_floorOrCeil 22 = .ok (.dconst 0, 1) := by decide +kernel
theorem dJ21_floorOrCeil_23 : decode cJ21_floorOrCeil 23 = .ok (.dcmp .g, 1) := by decide +kernel
theorem dJ21_floorOrCeil_24 : decode cJ21_floorOrCeil 24 = .ok (.ifCond .ge 7, 3) := by decide +kernel
theorem dJ21_floorOrCeil_27 : decode cJ21_floorOrCeil 27 = .ok (.dload_n 2, 1) := by decide +kernel
theorem dJ21_floorOrCeil_28 : decode cJ21_floorOrCeil 28 = .ok (.goto 5, 3) := by decide +kernel
theorem dJ21_floorOrCeil_31 : decode cJ21_floorOrCeil 31 = .ok (.dload 4, 2) := by decide +kernel
theorem dJ21_floorOrCeil_33 : decode cJ21_floorOrCeil 33 = .ok (.dreturn, 1) := by decide +kernel
theorem dJ21_floorOrCeil_34 : decode cJ21_floorOrCeil 34 = .ok (.iload 8, 2) := by decide +kernel
theorem dJ21_floorOrCeil_36 : decode cJ21_floorOrCeil 36 = .ok (.bipush 52, 2) := by decide +kernel
theorem dJ21_floorOrCeil_38 : decode cJ21_floorOrCeil 38 = .ok (.if_icmp .lt 5, 3) := by decide +kernel
theorem dJ21_floorOrCeil_41 : decode cJ21_floorOrCeil 41 = .ok (.dload_n 0, 1) := by decide +kernel
theorem dJ21_floorOrCeil_42 : decode cJ21_floorOrCeil 42 = .ok (.dreturn, 1) := by decide +kernel
theorem dJ21_floorOrCeil_43 : decode cJ21_floorOrCeil 43 = .ok (.getstatic 70, 3) := by decide +kernel
theorem dJ21_floorOrCeil_46 : decode cJ21_floorOrCeil 46 = .ok (.ifCond .ne 23, 3) := by decide +kernel
theorem dJ21_floorOrCeil_49 : decode cJ21_floorOrCeil 49 = .ok (.iload 8, 2) := by decide +kernel
theorem dJ21_floorOrCeil_51 : decode cJ21_floorOrCeil 51 = .ok (.ifCond .lt 10, 3) := by decide +kernel
theorem dJ21_floorOrCeil_54 : decode cJ21_floorOrCeil 54 = .ok (.iload 8, 2) := by decide +kernel
theorem dJ21_floorOrCeil_56 : decode cJ21_floorOrCeil 56 = .ok (.bipush 51, 2) := by decide +kernel
theorem dJ21_floorOrCeil_58 : decode cJ21_floorOrCeil 58 = .ok (.if_icmp .le 11, 3) := by decide +kernel
theorem dJ21_floorOrCeil_61 : decode cJ21_floorOrCeil 61 = .ok (.new 74, 3) := by decide +kernel
theorem dJ21_floorOrCeil_64 : decode cJ21_floorOrCeil 64 = .ok (.dup, 1) := by decide +kernel
theorem dJ21_floorOrCeil_65 : decode cJ21_floorOrCeil 65 = .ok (.invokespecial 76, 3) := by decide +kernel
theorem dJ21_floorOrCeil_68 : decode cJ21_floorOrCeil 68 = .ok (.athrow, 1) := by decide +kernel
theorem dJ21_floorOrCeil_69 : decode cJ21_floorOrCeil 69 = .ok (.dload_n 0, 1) := by decide +kernel
theorem dJ21_floorOrCeil_70 : decode cJ21_floorOrCeil 70 = .ok (.invokestatic 77, 3) := by decide +kernel
theorem dJ21_floorOrCeil_73 : decode cJ21_floorOrCeil 73 = .ok (.lstore 9, 2) := by decide +kernel
theorem dJ21_floorOrCeil_75 : decode cJ21_floorOrCeil 75 = .ok (.ldc2_w 85, 3) := by decide +kernel
theorem dJ21_floorOrCeil_78 : decode cJ21_floorOrCeil 78 = .ok (.iload 8, 2) := by decide +kernel
theorem dJ21_floorOrCeil_80 : decode cJ21_floorOrCeil 80 = .ok (.lshr, 1) := by decide +kernel
theorem dJ21_floorOrCeil_81 : decode cJ21_floorOrCeil 81 = .ok (.lstore 11, 2) := by decide +kernel
theorem dJ21_floorOrCeil_83 : decode cJ21_floorOrCeil 83 = .ok (.lload 11, 2) := by decide +kernel
theorem dJ21_floorOrCeil_85 : decode cJ21_floorOrCeil 85 = .ok (.lload 9, 2) := by decide +kernel
theorem dJ21_floorOrCeil_87 : decode cJ21_floorOrCeil 87 = .ok (.land, 1) := by decide +kernel
theorem dJ21_floorOrCeil_88 : decode cJ21_floorOrCeil 88 = .ok (.lconst 0, 1) := by decide +kernel
theorem dJ21_floorOrCeil_89 : decode cJ21_floorOrCeil 89 = .ok (.lcmp, 1) := by decide +kernel
theorem dJ21_floorOrCeil_90 : decode cJ21_floorOrCeil 90 = .ok (.ifCond .ne 5, 3) := by decide +kernel
theorem dJ21_floorOrCeil_93 : decode cJ21_floorOrCeil 93 = .ok (.dload_n 0, 1) := by decide +kernel
theorem dJ21_floorOrCeil_94 : decode cJ21_floorOrCeil 94 = .ok (.dreturn, 1) := by decide +kernel
theorem dJ21_floorOrCeil_95 : decode cJ21_floorOrCeil 95 = .ok (.lload 9, 2) := by decide +kernel
theorem dJ21_floorOrCeil_97 : decode cJ21_floorOrCeil 97 = .ok (.lload 11, 2) := by decide +kernel
theorem dJ21_floorOrCeil_99 : decode cJ21_floorOrCeil 99 = .ok (.ldc2_w 87, 3) := by decide +kernel
theorem dJ21_floorOrCeil_102 : decode cJ21_floorOrCeil 102 = .ok (.lxor, 1) := by decide +kernel
theorem dJ21_floorOrCeil_103 : decode cJ21_floorOrCeil 103 = .ok (.land, 1) := by decide +kernel
theorem dJ21_floorOrCeil_104 : decode cJ21_floorOrCeil 104 = .ok (.invokestatic 89, 3) := by decide +kernel
theorem dJ21_floorOrCeil_107 : decode cJ21_floorOrCeil 107 = .ok (.dstore 13, 2) := by decide +kernel
theorem dJ21_floorOrCeil_109 : decode cJ21_floorOrCeil 109 = .ok (.dload 6, 2) := by decide +kernel
theorem dJ21_floorOrCeil_111 : decode cJ21_floorOrCeil 111 = .ok (.dload_n 0, 1) := by decide +kernel
theorem dJ21_floorOrCeil_112 : decode cJ21_floorOrCeil 112 = .ok (.dmul, 1) := by decide +kernel
theorem dJ21_floorOrCeil_113 : decode cJ21_floorOrCeil 113 = .ok (.dconst 0, 1) := by decide +kernel
theorem dJ21_floorOrCeil_114 : decode cJ21_floorOrCeil 114 = .ok (.dcmp .l, 1) := by decide +kernel
theorem dJ21_floorOrCeil_115 : decode cJ21_floorOrCeil 115 = .ok (.ifCond .le 10, 3) := by decide +kernel
theorem dJ21_floorOrCeil_118 : decode cJ21_floorOrCeil 118 = .ok (.dload 13, 2) := by decide +kernel
theorem dJ21_floorOrCeil_120 : decode cJ21_floorOrCeil 120 = .ok (.dload 6, 2) := by decide +kernel
theorem dJ21_floorOrCeil_122 : decode cJ21_floorOrCeil 122 = .ok (.dadd, 1) := by decide +kernel
theorem dJ21_floorOrCeil_123 : decode cJ21_floorOrCeil 123 = .ok (.dstore 13, 2) := by decide +kernel
theorem dJ21_floorOrCeil_125 : decode cJ21_floorOrCeil 125 = .ok (.dload 13, 2) := by decide +kernel
theorem dJ21_floorOrCeil_127 : decode cJ21_floorOrCeil 127 = .ok (.dreturn, 1) := by decide +kernel
theorem q35 : (Jvm.Cond.initialized "java/lang/StrictMath") ∈ lw_all := lw_g (lw_at lw_m1 27 rfl) rfl
theorem q874 : (Jvm.Cond.static ({ cls := "java/lang/StrictMath", name := "ceil", desc := "(D)D" } : Jvm.MethodName)) ∈ lw_all := lw_g (lw_at lw_m4 146 rfl) rfl
theorem q875 : (Jvm.Cond.code ({ cls := "java/lang/StrictMath", name := "ceil", desc := "(D)D" } : Jvm.MethodName) prog_15_method_16_code (2 : Nat) (Option.some Jvm.ClassFile.FieldType.double)) ∈ lw_all := lw_g (lw_at lw_m4 147 rfl) rfl
theorem q876 : (Jvm.Cond.constantDouble "java/lang/StrictMath" (58 : Nat) (9223372036854775808 : UInt64)) ∈ lw_all := lw_g (lw_at lw_m4 148 rfl) rfl
theorem q877 : (Jvm.Cond.methodLink "java/lang/StrictMath" (60 : Nat) ({ cls := "java/lang/StrictMath", name := "floorOrCeil", desc := "(DDDD)D" } : Jvm.MethodName)) ∈ lw_all := lw_g (lw_at lw_m4 149 rfl) rfl
theorem q878 : (Jvm.Cond.static ({ cls := "java/lang/StrictMath", name := "floorOrCeil", desc := "(DDDD)D" } : Jvm.MethodName)) ∈ lw_all := lw_g (lw_at lw_m4 150 rfl) rfl
theorem q879 : (Jvm.Cond.code ({ cls := "java/lang/StrictMath", name := "floorOrCeil", desc := "(DDDD)D" } : Jvm.MethodName) prog_15_method_18_code (15 : Nat) (Option.some Jvm.ClassFile.FieldType.double)) ∈ lw_all := lw_g (lw_at lw_m4 151 rfl) rfl
theorem q880 : (Jvm.Cond.methodLink "java/lang/StrictMath" (66 : Nat) ({ cls := "java/lang/Math", name := "getExponent", desc := "(D)I" } : Jvm.MethodName)) ∈ lw_all := lw_g (lw_at lw_m4 152 rfl) rfl
theorem q888 : (Jvm.Cond.fieldLink "java/lang/StrictMath" (70 : Nat) "java/lang/StrictMath" "$assertionsDisabled" "Z") ∈ lw_all := lw_g (lw_at lw_m4 160 rfl) rfl
theorem q889 : (Jvm.Cond.laysStatic "java/lang/StrictMath" "$assertionsDisabled" "Z") ∈ lw_tbl := lw_at lw_m4 161 rfl
theorem q890 : (Jvm.Cond.methodLink "java/lang/StrictMath" (77 : Nat) ({ cls := "java/lang/Double", name := "doubleToRawLongBits", desc := "(D)J" } : Jvm.MethodName)) ∈ lw_all := lw_g (lw_at lw_m4 162 rfl) rfl
theorem q891 : (Jvm.Cond.constantLong "java/lang/StrictMath" (85 : Nat) (4503599627370495 : Int64)) ∈ lw_all := lw_g (lw_at lw_m4 163 rfl) rfl
theorem q892 : (Jvm.Cond.constantLong "java/lang/StrictMath" (87 : Nat) (-1 : Int64)) ∈ lw_all := lw_g (lw_at lw_m4 164 rfl) rfl
theorem q893 : (Jvm.Cond.methodLink "java/lang/StrictMath" (89 : Nat) ({ cls := "java/lang/Double", name := "longBitsToDouble", desc := "(J)D" } : Jvm.MethodName)) ∈ lw_all := lw_g (lw_at lw_m4 165 rfl) rfl
set_option maxRecDepth 100000
def RJ22 : String := "java/util/HashMap$EntrySet"
def TJ22 : u_T := fun k => match k with
  | _ => ("java/util/HashMap$EntrySet", "this$0", "Ljava/util/HashMap;", true)
def tyJ22 : Nat → FieldType := fun k => match k with
  | _ => .object "java/util/HashMap"
abbrev wsJ220 : List Cond := u_ws RJ22 TJ22 1
theorem nmJ22 : ∀ a, a < 1 → ∀ b, b < 1 → a ≠ b → (TJ22 a).2.1 ≠ (TJ22 b).2.1 := by decide +kernel
theorem tyJ22_ok : ∀ k, k < 1 → parseFieldDescriptor (TJ22 k).2.2.1 = some (tyJ22 k) := by decide +kernel
abbrev cJ22_iterator : ByteArray := prog_28_method_4_code
def yJ22_iterator : MethodName := ⟨RJ22, "iterator", "()Ljava/util/Iterator;"⟩
theorem dJ22_iterator_0 : decode cJ22_iterator 0 = .ok (.new 22, 3) := by decide +kernel
theorem dJ22_iterator_3 : decode cJ22_iterator 3 = .ok (.dup, 1) := by decide +kernel
theorem dJ22_iterator_4 : decode cJ22_iterator 4 = .ok (.aload_n 0, 1) := by decide +kernel
theorem dJ22_iterator_5 : decode cJ22_iterator 5 = .ok (.getfield 1, 3) := by decide +kernel
theorem dJ22_iterator_8 : decode cJ22_iterator 8 = .ok (.invokespecial 24, 3) := by decide +kernel
theorem dJ22_iterator_11 : decode cJ22_iterator 11 = .ok (.areturn, 1) := by decide +kernel
abbrev cJ22_init : ByteArray := prog_28_method_1_code
def yJ22_init : MethodName := ⟨RJ22, "<init>", "(Ljava/util/HashMap;)V"⟩
theorem dJ22_init_0 : decode cJ22_init 0 = .ok (.aload_n 0, 1) := by decide +kernel
theorem dJ22_init_1 : decode cJ22_init 1 = .ok (.aload_n 1, 1) := by decide +kernel
theorem dJ22_init_2 : decode cJ22_init 2 = .ok (.putfield 1, 3) := by decide +kernel
theorem dJ22_init_5 : decode cJ22_init 5 = .ok (.aload_n 0, 1) := by decide +kernel
theorem dJ22_init_6 : decode cJ22_init 6 = .ok (.invokespecial 7, 3) := by decide +kernel
theorem dJ22_init_9 : decode cJ22_init 9 = .ok (.return_, 1) := by decide +kernel
theorem q37 : (Jvm.Cond.initialized "java/util/HashMap$EntrySet") ∈ lw_all := lw_g (lw_at lw_m1 29 rfl) rfl
theorem q63 : (Jvm.Cond.fieldLink "java/util/HashMap$EntrySet" (13 : Nat) "java/util/HashMap" "size" "I") ∈ lw_all := lw_g (lw_at lw_m1 55 rfl) rfl
theorem q323 : (Jvm.Cond.selects "java/util/HashMap$EntrySet" ({ cls := "java/lang/Object", name := "getClass", desc := "()Ljava/lang/Class;" } : Jvm.MethodName) ({ cls := "java/lang/Object", name := "getClass", desc := "()Ljava/lang/Class;" } : Jvm.MethodName)) ∈ lw_all := lw_g (lw_at lw_m2 75 rfl) rfl
theorem q670 : (Jvm.Cond.castable "java/util/HashMap$EntrySet" "java/util/Set") ∈ lw_tbl := lw_at lw_m3 182 rfl
theorem q671 : (Jvm.Cond.selects "java/util/HashMap$EntrySet" ({ cls := "java/util/Set", name := "iterator", desc := "()Ljava/util/Iterator;" } : Jvm.MethodName) ({ cls := "java/util/HashMap$EntrySet", name := "iterator", desc := "()Ljava/util/Iterator;" } : Jvm.MethodName)) ∈ lw_all := lw_g (lw_at lw_m3 183 rfl) rfl
theorem q672 : (Jvm.Cond.unhidden "java/util/HashMap$EntrySet" "iterator" "()Ljava/util/Iterator;") ∈ lw_tbl := lw_at lw_m3 184 rfl
theorem q673 : (Jvm.Cond.instanceMethod ({ cls := "java/util/HashMap$EntrySet", name := "iterator", desc := "()Ljava/util/Iterator;" } : Jvm.MethodName)) ∈ lw_all := lw_g (lw_at lw_m3 185 rfl) rfl
theorem q674 : (Jvm.Cond.publicMethod ({ cls := "java/util/HashMap$EntrySet", name := "iterator", desc := "()Ljava/util/Iterator;" } : Jvm.MethodName)) ∈ lw_tbl := lw_at lw_m3 186 rfl
theorem q675 : (Jvm.Cond.code ({ cls := "java/util/HashMap$EntrySet", name := "iterator", desc := "()Ljava/util/Iterator;" } : Jvm.MethodName) prog_28_method_4_code (1 : Nat) (Option.some (Jvm.ClassFile.FieldType.object "java/util/Iterator"))) ∈ lw_all := lw_g (lw_at lw_m3 187 rfl) rfl
theorem q676 : (Jvm.Cond.classLink "java/util/HashMap$EntrySet" (22 : Nat) "java/util/HashMap$EntryIterator") ∈ lw_all := lw_g (lw_at lw_m3 188 rfl) rfl
theorem q678 : (Jvm.Cond.methodLink "java/util/HashMap$EntrySet" (24 : Nat) ({ cls := "java/util/HashMap$EntryIterator", name := "<init>", desc := "(Ljava/util/HashMap;)V" } : Jvm.MethodName)) ∈ lw_all := lw_g (lw_at lw_m3 190 rfl) rfl
theorem q907 : (Jvm.Cond.instantiable "java/util/HashMap$EntrySet" (1 : Nat)) ∈ lw_all := lw_g (lw_at lw_m4 179 rfl) rfl
theorem q909 : (Jvm.Cond.instanceMethod ({ cls := "java/util/HashMap$EntrySet", name := "<init>", desc := "(Ljava/util/HashMap;)V" } : Jvm.MethodName)) ∈ lw_all := lw_g (lw_at lw_m4 181 rfl) rfl
theorem q910 : (Jvm.Cond.code ({ cls := "java/util/HashMap$EntrySet", name := "<init>", desc := "(Ljava/util/HashMap;)V" } : Jvm.MethodName) prog_28_method_1_code (2 : Nat) (Option.none : Option Jvm.ClassFile.FieldType)) ∈ lw_all := lw_g (lw_at lw_m4 182 rfl) rfl
theorem q911 : (Jvm.Cond.methodLink "java/util/HashMap$EntrySet" (7 : Nat) ({ cls := "java/util/AbstractSet", name := "<init>", desc := "()V" } : Jvm.MethodName)) ∈ lw_all := lw_g (lw_at lw_m4 183 rfl) rfl
theorem q912 : (Jvm.Cond.fieldLink "java/util/HashMap$EntrySet" (1 : Nat) "java/util/HashMap$EntrySet" "this$0" "Ljava/util/HashMap;") ∈ lw_all := lw_g (lw_at lw_m4 184 rfl) rfl
theorem q913 : (Jvm.Cond.laysFinal "java/util/HashMap$EntrySet" "java/util/HashMap$EntrySet" "this$0" "Ljava/util/HashMap;") ∈ lw_all := lw_g (lw_at lw_m4 185 rfl) rfl
theorem q914 : (Jvm.Cond.soleField "java/util/HashMap$EntrySet" "this$0") ∈ lw_all := lw_g (lw_at lw_m4 186 rfl) rfl
theorem q915 : (Jvm.Cond.superclass "java/util/HashMap$EntrySet" "java/util/AbstractSet") ∈ lw_all := lw_g (lw_at lw_m4 187 rfl) rfl
theorem q1308 : (Jvm.Cond.castable "java/util/HashMap$EntrySet" "java/lang/Object") ∈ lw_tbl := lw_at lw_m6 100 rfl
theorem in_J22 : ∀ w ∈ wsJ220, w ∈ lw_all := lw_in wsJ220 [913] (by decide +kernel) (by decide +kernel)
set_option maxRecDepth 100000
def RJ23 : String := "java/util/LinkedHashMap$LinkedEntrySet"
def TJ23 : u_T := fun k => match k with
  | 0 => ("java/util/LinkedHashMap$LinkedEntrySet", "reversed", "Z", true)
  | _ => ("java/util/LinkedHashMap$LinkedEntrySet", "this$0", "Ljava/util/LinkedHashMap;", true)
def tyJ23 : Nat → FieldType := fun k => match k with
  | 0 => .boolean
  | _ => .object "java/util/LinkedHashMap"
abbrev wsJ230 : List Cond := u_ws RJ23 TJ23 2
theorem nmJ23 : ∀ a, a < 2 → ∀ b, b < 2 → a ≠ b → (TJ23 a).2.1 ≠ (TJ23 b).2.1 := by decide +kernel
theorem tyJ23_ok : ∀ k, k < 2 → parseFieldDescriptor (TJ23 k).2.2.1 = some (tyJ23 k) := by decide +kernel
abbrev cJ23_iterator : ByteArray := prog_38_method_4_code
def yJ23_iterator : MethodName := ⟨RJ23, "iterator", "()Ljava/util/Iterator;"⟩
theorem dJ23_iterator_0 : decode cJ23_iterator 0 = .ok (.new 26, 3) := by decide +kernel
theorem dJ23_iterator_3 : decode cJ23_iterator 3 = .ok (.dup, 1) := by decide +kernel
theorem dJ23_iterator_4 : decode cJ23_iterator 4 = .ok (.aload_n 0, 1) := by decide +kernel
theorem dJ23_iterator_5 : decode cJ23_iterator 5 = .ok (.getfield 1, 3) := by decide +kernel
theorem dJ23_iterator_8 : decode cJ23_iterator 8 = .ok (.aload_n 0, 1) := by decide +kernel
theorem dJ23_iterator_9 : decode cJ23_iterator 9 = .ok (.getfield 13, 3) := by decide +kernel
theorem dJ23_iterator_12 : decode cJ23_iterator 12 = .ok (.invokespecial 28, 3) := by decide +kernel
theorem dJ23_iterator_15 : decode cJ23_iterator 15 = .ok (.areturn, 1) := by decide +kernel
abbrev cJ23_init : ByteArray := prog_38_method_1_code
def yJ23_init : MethodName := ⟨RJ23, "<init>", "(Ljava/util/LinkedHashMap;Z)V"⟩
theorem dJ23_init_0 : decode cJ23_init 0 = .ok (.aload_n 0, 1) := by decide +kernel
theorem dJ23_init_1 : decode cJ23_init 1 = .ok (.aload_n 1, 1) := by decide +kernel
theorem dJ23_init_2 : decode cJ23_init 2 = .ok (.putfield 1, 3) := by decide +kernel
theorem dJ23_init_5 : decode cJ23_init 5 = .ok (.aload_n 0, 1) := by decide +kernel
theorem dJ23_init_6 : decode cJ23_init 6 = .ok (.invokespecial 7, 3) := by decide +kernel
theorem dJ23_init_9 : decode cJ23_init 9 = .ok (.aload_n 0, 1) := by decide +kernel
theorem dJ23_init_10 : decode cJ23_init 10 = .ok (.iload_n 2, 1) := by decide +kernel
theorem dJ23_init_11 : decode cJ23_init 11 = .ok (.putfield 13, 3) := by decide +kernel
theorem dJ23_init_14 : decode cJ23_init 14 = .ok (.return_, 1) := by decide +kernel
theorem q38 : (Jvm.Cond.initialized "java/util/LinkedHashMap$LinkedEntrySet") ∈ lw_all := lw_g (lw_at lw_m1 30 rfl) rfl
theorem q65 : (Jvm.Cond.fieldLink "java/util/LinkedHashMap$LinkedEntrySet" (17 : Nat) "java/util/LinkedHashMap" "size" "I") ∈ lw_all := lw_g (lw_at lw_m1 57 rfl) rfl
theorem q331 : (Jvm.Cond.selects "java/util/LinkedHashMap$LinkedEntrySet" ({ cls := "java/lang/Object", name := "getClass", desc := "()Ljava/lang/Class;" } : Jvm.MethodName) ({ cls := "java/lang/Object", name := "getClass", desc := "()Ljava/lang/Class;" } : Jvm.MethodName)) ∈ lw_all := lw_g (lw_at lw_m2 83 rfl) rfl
theorem q719 : (Jvm.Cond.castable "java/util/LinkedHashMap$LinkedEntrySet" "java/util/Set") ∈ lw_tbl := lw_at lw_m3 231 rfl
theorem q720 : (Jvm.Cond.selects "java/util/LinkedHashMap$LinkedEntrySet" ({ cls := "java/util/Set", name := "iterator", desc := "()Ljava/util/Iterator;" } : Jvm.MethodName) ({ cls := "java/util/LinkedHashMap$LinkedEntrySet", name := "iterator", desc := "()Ljava/util/Iterator;" } : Jvm.MethodName)) ∈ lw_all := lw_g (lw_at lw_m3 232 rfl) rfl
theorem q721 : (Jvm.Cond.unhidden "java/util/LinkedHashMap$LinkedEntrySet" "iterator" "()Ljava/util/Iterator;") ∈ lw_tbl := lw_at lw_m3 233 rfl
theorem q722 : (Jvm.Cond.instanceMethod ({ cls := "java/util/LinkedHashMap$LinkedEntrySet", name := "iterator", desc := "()Ljava/util/Iterator;" } : Jvm.MethodName)) ∈ lw_all := lw_g (lw_at lw_m3 234 rfl) rfl
theorem q723 : (Jvm.Cond.publicMethod ({ cls := "java/util/LinkedHashMap$LinkedEntrySet", name := "iterator", desc := "()Ljava/util/Iterator;" } : Jvm.MethodName)) ∈ lw_tbl := lw_at lw_m3 235 rfl
theorem q724 : (Jvm.Cond.code ({ cls := "java/util/LinkedHashMap$LinkedEntrySet", name := "iterator", desc := "()Ljava/util/Iterator;" } : Jvm.MethodName) prog_38_method_4_code (1 : Nat) (Option.some (Jvm.ClassFile.FieldType.object "java/util/Iterator"))) ∈ lw_all := lw_g (lw_at lw_m3 236 rfl) rfl
theorem q725 : (Jvm.Cond.classLink "java/util/LinkedHashMap$LinkedEntrySet" (26 : Nat) "java/util/LinkedHashMap$LinkedEntryIterator") ∈ lw_all := lw_g (lw_at lw_m3 237 rfl) rfl
theorem q727 : (Jvm.Cond.methodLink "java/util/LinkedHashMap$LinkedEntrySet" (28 : Nat) ({ cls := "java/util/LinkedHashMap$LinkedEntryIterator", name := "<init>", desc := "(Ljava/util/LinkedHashMap;Z)V" } : Jvm.MethodName)) ∈ lw_all := lw_g (lw_at lw_m3 239 rfl) rfl
theorem q926 : (Jvm.Cond.instantiable "java/util/LinkedHashMap$LinkedEntrySet" (2 : Nat)) ∈ lw_all := lw_g (lw_at lw_m4 198 rfl) rfl
theorem q928 : (Jvm.Cond.instanceMethod ({ cls := "java/util/LinkedHashMap$LinkedEntrySet", name := "<init>", desc := "(Ljava/util/LinkedHashMap;Z)V" } : Jvm.MethodName)) ∈ lw_all := lw_g (lw_at lw_m4 200 rfl) rfl
theorem q929 : (Jvm.Cond.code ({ cls := "java/util/LinkedHashMap$LinkedEntrySet", name := "<init>", desc := "(Ljava/util/LinkedHashMap;Z)V" } : Jvm.MethodName) prog_38_method_1_code (3 : Nat) (Option.none : Option Jvm.ClassFile.FieldType)) ∈ lw_all := lw_g (lw_at lw_m4 201 rfl) rfl
theorem q930 : (Jvm.Cond.methodLink "java/util/LinkedHashMap$LinkedEntrySet" (7 : Nat) ({ cls := "java/util/AbstractSet", name := "<init>", desc := "()V" } : Jvm.MethodName)) ∈ lw_all := lw_g (lw_at lw_m4 202 rfl) rfl
theorem q931 : (Jvm.Cond.fieldLink "java/util/LinkedHashMap$LinkedEntrySet" (13 : Nat) "java/util/LinkedHashMap$LinkedEntrySet" "reversed" "Z") ∈ lw_all := lw_g (lw_at lw_m4 203 rfl) rfl
theorem q932 : (Jvm.Cond.fieldLink "java/util/LinkedHashMap$LinkedEntrySet" (1 : Nat) "java/util/LinkedHashMap$LinkedEntrySet" "this$0" "Ljava/util/LinkedHashMap;") ∈ lw_all := lw_g (lw_at lw_m4 204 rfl) rfl
theorem q933 : (Jvm.Cond.laysFinal "java/util/LinkedHashMap$LinkedEntrySet" "java/util/LinkedHashMap$LinkedEntrySet" "reversed" "Z") ∈ lw_all := lw_g (lw_at lw_m4 205 rfl) rfl
theorem q934 : (Jvm.Cond.soleField "java/util/LinkedHashMap$LinkedEntrySet" "reversed") ∈ lw_all := lw_g (lw_at lw_m4 206 rfl) rfl
theorem q935 : (Jvm.Cond.laysFinal "java/util/LinkedHashMap$LinkedEntrySet" "java/util/LinkedHashMap$LinkedEntrySet" "this$0" "Ljava/util/LinkedHashMap;") ∈ lw_all := lw_g (lw_at lw_m4 207 rfl) rfl
theorem q936 : (Jvm.Cond.soleField "java/util/LinkedHashMap$LinkedEntrySet" "this$0") ∈ lw_all := lw_g (lw_at lw_m4 208 rfl) rfl
theorem q937 : (Jvm.Cond.superclass "java/util/LinkedHashMap$LinkedEntrySet" "java/util/AbstractSet") ∈ lw_all := lw_g (lw_at lw_m4 209 rfl) rfl
theorem q1290 : (Jvm.Cond.castable "java/util/LinkedHashMap$LinkedEntrySet" "java/util/SequencedSet") ∈ lw_tbl := lw_at lw_m6 82 rfl
theorem q1309 : (Jvm.Cond.castable "java/util/LinkedHashMap$LinkedEntrySet" "java/lang/Object") ∈ lw_tbl := lw_at lw_m6 101 rfl
theorem in_J23 : ∀ w ∈ wsJ230, w ∈ lw_all := lw_in wsJ230 [933, 935] (by decide +kernel) (by decide +kernel)
set_option maxRecDepth 100000
def RJ24 : String := "java/lang/Object"
abbrev cJ24_init : ByteArray := object_method_1_code
def yJ24_init : MethodName := ⟨RJ24, "<init>", "()V"⟩
theorem dJ24_init_0 : decode cJ24_init 0 = .ok (.return_, 1) := by decide +kernel
abbrev cJ24_equals : ByteArray := object_method_4_code
def yJ24_equals : MethodName := ⟨RJ24, "equals", "(Ljava/lang/Object;)Z"⟩
theorem dJ24_equals_0 : decode cJ24_equals 0 = .ok (.aload_n 0, 1) := by decide +kernel
theorem dJ24_equals_1 : decode cJ24_equals 1 = .ok (.aload_n 1, 1) := by decide +kernel
theorem dJ24_equals_2 : decode cJ24_equals 2 = .ok (.if_acmp .ne 7, 3) := by decide +kernel
theorem dJ24_equals_5 : decode cJ24_equals 5 = .ok (.iconst 1, 1) := by decide +kernel
theorem dJ24_equals_6 : decode cJ24_equals 6 = .ok (.goto 4, 3) := by decide +kernel
theorem dJ24_equals_9 : decode cJ24_equals 9 = .ok (.iconst 0, 1) := by decide +kernel
theorem dJ24_equals_10 : decode cJ24_equals 10 = .ok (.ireturn, 1) := by decide +kernel
theorem q45 : (Jvm.Cond.instanceMethod ({ cls := "java/lang/Object", name := "<init>", desc := "()V" } : Jvm.MethodName)) ∈ lw_all := lw_g (lw_at lw_m1 37 rfl) rfl
theorem q46 : (Jvm.Cond.code ({ cls := "java/lang/Object", name := "<init>", desc := "()V" } : Jvm.MethodName) object_method_1_code (1 : Nat) (Option.none : Option Jvm.ClassFile.FieldType)) ∈ lw_all := lw_g (lw_at lw_m1 38 rfl) rfl
theorem q192 : (Jvm.Cond.declares ({ cls := "java/lang/Object", name := "hashCode", desc := "()I" } : Jvm.MethodName)) ∈ lw_tbl := lw_at lw_m1 184 rfl
theorem q194 : (Jvm.Cond.instanceMethod ({ cls := "java/lang/Object", name := "hashCode", desc := "()I" } : Jvm.MethodName)) ∈ lw_all := lw_g (lw_at lw_m1 186 rfl) rfl
theorem q195 : (Jvm.Cond.sameMethod "java/lang/Object" "java/lang/Object" "hashCode" "()I") ∈ lw_all := lw_g (lw_at lw_m1 187 rfl) rfl
theorem q205 : (Jvm.Cond.native ({ cls := "java/lang/Object", name := "hashCode", desc := "()I" } : Jvm.MethodName)) ∈ lw_all := lw_g (lw_at lw_m1 197 rfl) rfl
theorem q315 : (Jvm.Cond.instanceMethod ({ cls := "java/lang/Object", name := "getClass", desc := "()Ljava/lang/Class;" } : Jvm.MethodName)) ∈ lw_all := lw_g (lw_at lw_m2 67 rfl) rfl
theorem q316 : (Jvm.Cond.sameMethod "java/lang/Object" "java/lang/Object" "getClass" "()Ljava/lang/Class;") ∈ lw_all := lw_g (lw_at lw_m2 68 rfl) rfl
theorem q334 : (Jvm.Cond.native ({ cls := "java/lang/Object", name := "getClass", desc := "()Ljava/lang/Class;" } : Jvm.MethodName)) ∈ lw_all := lw_g (lw_at lw_m2 86 rfl) rfl
theorem q381 : (Jvm.Cond.declares ({ cls := "java/lang/Object", name := "equals", desc := "(Ljava/lang/Object;)Z" } : Jvm.MethodName)) ∈ lw_tbl := lw_at lw_m2 133 rfl
theorem q383 : (Jvm.Cond.instanceMethod ({ cls := "java/lang/Object", name := "equals", desc := "(Ljava/lang/Object;)Z" } : Jvm.MethodName)) ∈ lw_all := lw_g (lw_at lw_m2 135 rfl) rfl
theorem q384 : (Jvm.Cond.sameMethod "java/lang/Object" "java/lang/Object" "equals" "(Ljava/lang/Object;)Z") ∈ lw_all := lw_g (lw_at lw_m2 136 rfl) rfl
theorem q395 : (Jvm.Cond.code ({ cls := "java/lang/Object", name := "equals", desc := "(Ljava/lang/Object;)Z" } : Jvm.MethodName) object_method_4_code (2 : Nat) (Option.some Jvm.ClassFile.FieldType.boolean)) ∈ lw_all := lw_g (lw_at lw_m2 147 rfl) rfl
theorem q1182 : (Jvm.Cond.native ({ cls := "java/lang/Object", name := "clone", desc := "()Ljava/lang/Object;" } : Jvm.MethodName)) ∈ lw_all := lw_g (lw_at lw_m5 214 rfl) rfl
theorem q1183 : (Jvm.Cond.instanceMethod ({ cls := "java/lang/Object", name := "clone", desc := "()Ljava/lang/Object;" } : Jvm.MethodName)) ∈ lw_all := lw_g (lw_at lw_m5 215 rfl) rfl
theorem q8 : (Jvm.Cond.initialized "HashHallLaw") ∈ lw_all := lw_g (lw_at lw_m1 0 rfl) rfl
set_option maxRecDepth 100000
theorem q39 : (Jvm.Cond.classLink "HashHallLaw" (7 : Nat) "HashHall") ∈ lw_all := lw_g (lw_at lw_m1 31 rfl) rfl
theorem q41 : (Jvm.Cond.methodLink "HashHallLaw" (9 : Nat) ({ cls := "HashHall", name := "<init>", desc := "()V" } : Jvm.MethodName)) ∈ lw_all := lw_g (lw_at lw_m1 33 rfl) rfl
theorem q154 : (Jvm.Cond.methodLink "HashHallLaw" (13 : Nat) ({ cls := "HashHall", name := "put", desc := "(III)J" } : Jvm.MethodName)) ∈ lw_all := lw_g (lw_at lw_m1 146 rfl) rfl
theorem q488 : (Jvm.Cond.methodLink "HashHallLaw" (18 : Nat) ({ cls := "HashHall", name := "add", desc := "(III)J" } : Jvm.MethodName)) ∈ lw_all := lw_g (lw_at lw_m3 0 rfl) rfl
theorem q498 : (Jvm.Cond.methodLink "HashHallLaw" (22 : Nat) ({ cls := "HashHall", name := "get", desc := "(II)J" } : Jvm.MethodName)) ∈ lw_all := lw_g (lw_at lw_m3 10 rfl) rfl
theorem q522 : (Jvm.Cond.methodLink "HashHallLaw" (27 : Nat) ({ cls := "HashHall", name := "give", desc := "(III)J" } : Jvm.MethodName)) ∈ lw_all := lw_g (lw_at lw_m3 34 rfl) rfl
theorem q534 : (Jvm.Cond.methodLink "HashHallLaw" (31 : Nat) ({ cls := "HashHall", name := "remove", desc := "(II)J" } : Jvm.MethodName)) ∈ lw_all := lw_g (lw_at lw_m3 46 rfl) rfl
theorem q565 : (Jvm.Cond.methodLink "HashHallLaw" (35 : Nat) ({ cls := "HashHall", name := "take", desc := "(III)Z" } : Jvm.MethodName)) ∈ lw_all := lw_g (lw_at lw_m3 77 rfl) rfl
theorem q575 : (Jvm.Cond.methodLink "HashHallLaw" (40 : Nat) ({ cls := "HashHall", name := "has", desc := "(III)Z" } : Jvm.MethodName)) ∈ lw_all := lw_g (lw_at lw_m3 87 rfl) rfl
theorem q594 : (Jvm.Cond.methodLink "HashHallLaw" (44 : Nat) ({ cls := "HashHall", name := "size", desc := "(I)I" } : Jvm.MethodName)) ∈ lw_all := lw_g (lw_at lw_m3 106 rfl) rfl
theorem q604 : (Jvm.Cond.methodLink "HashHallLaw" (49 : Nat) ({ cls := "HashHall", name := "clear", desc := "(I)I" } : Jvm.MethodName)) ∈ lw_all := lw_g (lw_at lw_m3 116 rfl) rfl
theorem q617 : (Jvm.Cond.methodLink "HashHallLaw" (53 : Nat) ({ cls := "HashHall", name := "pour", desc := "(II)I" } : Jvm.MethodName)) ∈ lw_all := lw_g (lw_at lw_m3 129 rfl) rfl
theorem q972 : (Jvm.Cond.methodLink "HashHallLaw" (58 : Nat) ({ cls := "HashHall", name := "entry", desc := "(III)J" } : Jvm.MethodName)) ∈ lw_all := lw_g (lw_at lw_m5 4 rfl) rfl
theorem q982 : (Jvm.Cond.methodLink "HashHallLaw" (62 : Nat) ({ cls := "HashHall", name := "sum", desc := "(I)J" } : Jvm.MethodName)) ∈ lw_all := lw_g (lw_at lw_m5 14 rfl) rfl
theorem q991 : (Jvm.Cond.methodLink "HashHallLaw" (67 : Nat) ({ cls := "HashHall", name := "sweep", desc := "(III)I" } : Jvm.MethodName)) ∈ lw_all := lw_g (lw_at lw_m5 23 rfl) rfl
theorem q1021 : (Jvm.Cond.methodLink "HashHallLaw" (72 : Nat) ({ cls := "HashHall", name := "raise", desc := "(II)I" } : Jvm.MethodName)) ∈ lw_all := lw_g (lw_at lw_m5 53 rfl) rfl
theorem q1038 : (Jvm.Cond.methodLink "HashHallLaw" (76 : Nat) ({ cls := "HashHall", name := "same", desc := "(II)Z" } : Jvm.MethodName)) ∈ lw_all := lw_g (lw_at lw_m5 70 rfl) rfl
theorem q1094 : (Jvm.Cond.methodLink "HashHallLaw" (81 : Nat) ({ cls := "HashHall", name := "fill", desc := "(IIII)I" } : Jvm.MethodName)) ∈ lw_all := lw_g (lw_at lw_m5 126 rfl) rfl
theorem q1098 : (Jvm.Cond.classLink "HashHallLaw" (10 : Nat) "HashHallModel") ∈ lw_all := lw_g (lw_at lw_m5 130 rfl) rfl
theorem q1100 : (Jvm.Cond.methodLink "HashHallLaw" (12 : Nat) ({ cls := "HashHallModel", name := "<init>", desc := "()V" } : Jvm.MethodName)) ∈ lw_all := lw_g (lw_at lw_m5 132 rfl) rfl
theorem q1153 : (Jvm.Cond.methodLink "HashHallLaw" (17 : Nat) ({ cls := "HashHallModel", name := "put", desc := "(III)J" } : Jvm.MethodName)) ∈ lw_all := lw_g (lw_at lw_m5 185 rfl) rfl
theorem q1211 : (Jvm.Cond.methodLink "HashHallLaw" (21 : Nat) ({ cls := "HashHallModel", name := "add", desc := "(III)J" } : Jvm.MethodName)) ∈ lw_all := lw_g (lw_at lw_m6 3 rfl) rfl
theorem q1215 : (Jvm.Cond.methodLink "HashHallLaw" (26 : Nat) ({ cls := "HashHallModel", name := "get", desc := "(II)J" } : Jvm.MethodName)) ∈ lw_all := lw_g (lw_at lw_m6 7 rfl) rfl
theorem q1219 : (Jvm.Cond.methodLink "HashHallLaw" (30 : Nat) ({ cls := "HashHallModel", name := "give", desc := "(III)J" } : Jvm.MethodName)) ∈ lw_all := lw_g (lw_at lw_m6 11 rfl) rfl
theorem q1224 : (Jvm.Cond.methodLink "HashHallLaw" (34 : Nat) ({ cls := "HashHallModel", name := "remove", desc := "(II)J" } : Jvm.MethodName)) ∈ lw_all := lw_g (lw_at lw_m6 16 rfl) rfl
theorem q1232 : (Jvm.Cond.methodLink "HashHallLaw" (39 : Nat) ({ cls := "HashHallModel", name := "take", desc := "(III)Z" } : Jvm.MethodName)) ∈ lw_all := lw_g (lw_at lw_m6 24 rfl) rfl
theorem q1236 : (Jvm.Cond.methodLink "HashHallLaw" (43 : Nat) ({ cls := "HashHallModel", name := "has", desc := "(III)Z" } : Jvm.MethodName)) ∈ lw_all := lw_g (lw_at lw_m6 28 rfl) rfl
theorem q1240 : (Jvm.Cond.methodLink "HashHallLaw" (48 : Nat) ({ cls := "HashHallModel", name := "size", desc := "(I)I" } : Jvm.MethodName)) ∈ lw_all := lw_g (lw_at lw_m6 32 rfl) rfl
theorem q1244 : (Jvm.Cond.methodLink "HashHallLaw" (52 : Nat) ({ cls := "HashHallModel", name := "clear", desc := "(I)I" } : Jvm.MethodName)) ∈ lw_all := lw_g (lw_at lw_m6 36 rfl) rfl
theorem q1252 : (Jvm.Cond.methodLink "HashHallLaw" (57 : Nat) ({ cls := "HashHallModel", name := "pour", desc := "(II)I" } : Jvm.MethodName)) ∈ lw_all := lw_g (lw_at lw_m6 44 rfl) rfl
theorem q1257 : (Jvm.Cond.methodLink "HashHallLaw" (61 : Nat) ({ cls := "HashHallModel", name := "entry", desc := "(III)J" } : Jvm.MethodName)) ∈ lw_all := lw_g (lw_at lw_m6 49 rfl) rfl
theorem q1261 : (Jvm.Cond.methodLink "HashHallLaw" (66 : Nat) ({ cls := "HashHallModel", name := "sum", desc := "(I)J" } : Jvm.MethodName)) ∈ lw_all := lw_g (lw_at lw_m6 53 rfl) rfl
theorem q1266 : (Jvm.Cond.methodLink "HashHallLaw" (71 : Nat) ({ cls := "HashHallModel", name := "sweep", desc := "(III)I" } : Jvm.MethodName)) ∈ lw_all := lw_g (lw_at lw_m6 58 rfl) rfl
theorem q1271 : (Jvm.Cond.methodLink "HashHallLaw" (75 : Nat) ({ cls := "HashHallModel", name := "raise", desc := "(II)I" } : Jvm.MethodName)) ∈ lw_all := lw_g (lw_at lw_m6 63 rfl) rfl
theorem q1275 : (Jvm.Cond.methodLink "HashHallLaw" (80 : Nat) ({ cls := "HashHallModel", name := "same", desc := "(II)Z" } : Jvm.MethodName)) ∈ lw_all := lw_g (lw_at lw_m6 67 rfl) rfl
theorem q1279 : (Jvm.Cond.methodLink "HashHallLaw" (85 : Nat) ({ cls := "HashHallModel", name := "fill", desc := "(IIII)I" } : Jvm.MethodName)) ∈ lw_all := lw_g (lw_at lw_m6 71 rfl) rfl
theorem q1181 : (Jvm.Cond.sameMethod "[I" "java/lang/Object" "clone" "()Ljava/lang/Object;") ∈ lw_all := lw_g (lw_at lw_m5 213 rfl) rfl
set_option maxRecDepth 100000
theorem q1184 : (Jvm.Cond.selects "[I" ({ cls := "[I", name := "clone", desc := "()Ljava/lang/Object;" } : Jvm.MethodName) ({ cls := "java/lang/Object", name := "clone", desc := "()Ljava/lang/Object;" } : Jvm.MethodName)) ∈ lw_all := lw_g (lw_at lw_m5 216 rfl) rfl
theorem q1185 : (Jvm.Cond.castable "[I" "java/lang/Cloneable") ∈ lw_tbl := lw_at lw_m5 217 rfl
theorem q1314 : (Jvm.Cond.castable "[I" "java/lang/Object") ∈ lw_tbl := lw_at lw_m6 106 rfl
theorem q1313 : (Jvm.Cond.castable "[LHashHallModel$Pairs;" "java/lang/Object") ∈ lw_tbl := lw_at lw_m6 105 rfl
set_option maxRecDepth 100000
theorem q1312 : (Jvm.Cond.castable "[Ljava/util/HashMap$Node;" "java/lang/Object") ∈ lw_tbl := lw_at lw_m6 104 rfl
set_option maxRecDepth 100000
theorem q340 : (Jvm.Cond.interfaceMethod "java/lang/Comparable" "java/lang/Comparable" "compareTo" "(Ljava/lang/Object;)I") ∈ lw_tbl := lw_at lw_m2 92 rfl
set_option maxRecDepth 100000
theorem q341 : (Jvm.Cond.declares ({ cls := "java/lang/Comparable", name := "compareTo", desc := "(Ljava/lang/Object;)I" } : Jvm.MethodName)) ∈ lw_tbl := lw_at lw_m2 93 rfl
theorem q36 : (Jvm.Cond.initialized "java/lang/Double") ∈ lw_all := lw_g (lw_at lw_m1 28 rfl) rfl
set_option maxRecDepth 100000
theorem q884 : (Jvm.Cond.static ({ cls := "java/lang/Double", name := "doubleToRawLongBits", desc := "(D)J" } : Jvm.MethodName)) ∈ lw_all := lw_g (lw_at lw_m4 156 rfl) rfl
theorem q885 : (Jvm.Cond.native ({ cls := "java/lang/Double", name := "doubleToRawLongBits", desc := "(D)J" } : Jvm.MethodName)) ∈ lw_all := lw_g (lw_at lw_m4 157 rfl) rfl
theorem q894 : (Jvm.Cond.static ({ cls := "java/lang/Double", name := "longBitsToDouble", desc := "(J)D" } : Jvm.MethodName)) ∈ lw_all := lw_g (lw_at lw_m4 166 rfl) rfl
theorem q895 : (Jvm.Cond.native ({ cls := "java/lang/Double", name := "longBitsToDouble", desc := "(J)D" } : Jvm.MethodName)) ∈ lw_all := lw_g (lw_at lw_m4 167 rfl) rfl
theorem q18 : (Jvm.Cond.initialized "java/lang/Integer$IntegerCache") ∈ lw_all := lw_g (lw_at lw_m1 10 rfl) rfl
set_option maxRecDepth 100000
theorem q167 : (Jvm.Cond.laysStatic "java/lang/Integer$IntegerCache" "high" "I") ∈ lw_tbl := lw_at lw_m1 159 rfl
theorem q169 : (Jvm.Cond.laysStatic "java/lang/Integer$IntegerCache" "cache" "[Ljava/lang/Integer;") ∈ lw_tbl := lw_at lw_m1 161 rfl
theorem q24 : (Jvm.Cond.initialized "java/lang/System") ∈ lw_all := lw_g (lw_at lw_m1 16 rfl) rfl
set_option maxRecDepth 100000
theorem q1191 : (Jvm.Cond.static ({ cls := "java/lang/System", name := "arraycopy", desc := "(Ljava/lang/Object;ILjava/lang/Object;II)V" } : Jvm.MethodName)) ∈ lw_all := lw_g (lw_at lw_m5 223 rfl) rfl
theorem q1192 : (Jvm.Cond.native ({ cls := "java/lang/System", name := "arraycopy", desc := "(Ljava/lang/Object;ILjava/lang/Object;II)V" } : Jvm.MethodName)) ∈ lw_all := lw_g (lw_at lw_m5 224 rfl) rfl
theorem q770 : (Jvm.Cond.interfaceMethod "java/util/Iterator" "java/util/Iterator" "hasNext" "()Z") ∈ lw_tbl := lw_at lw_m4 42 rfl
set_option maxRecDepth 100000
theorem q771 : (Jvm.Cond.declares ({ cls := "java/util/Iterator", name := "hasNext", desc := "()Z" } : Jvm.MethodName)) ∈ lw_tbl := lw_at lw_m4 43 rfl
theorem q792 : (Jvm.Cond.interfaceMethod "java/util/Iterator" "java/util/Iterator" "next" "()Ljava/lang/Object;") ∈ lw_tbl := lw_at lw_m4 64 rfl
theorem q793 : (Jvm.Cond.declares ({ cls := "java/util/Iterator", name := "next", desc := "()Ljava/lang/Object;" } : Jvm.MethodName)) ∈ lw_tbl := lw_at lw_m4 65 rfl
theorem q1000 : (Jvm.Cond.interfaceMethod "java/util/Iterator" "java/util/Iterator" "remove" "()V") ∈ lw_tbl := lw_at lw_m5 32 rfl
theorem q1001 : (Jvm.Cond.declares ({ cls := "java/util/Iterator", name := "remove", desc := "()V" } : Jvm.MethodName)) ∈ lw_tbl := lw_at lw_m5 33 rfl
theorem q861 : (Jvm.Cond.interfaceMethod "java/util/Map" "java/util/Map" "size" "()I") ∈ lw_tbl := lw_at lw_m4 133 rfl
set_option maxRecDepth 100000
theorem q862 : (Jvm.Cond.declares ({ cls := "java/util/Map", name := "size", desc := "()I" } : Jvm.MethodName)) ∈ lw_tbl := lw_at lw_m4 134 rfl
theorem q899 : (Jvm.Cond.interfaceMethod "java/util/Map" "java/util/Map" "entrySet" "()Ljava/util/Set;") ∈ lw_tbl := lw_at lw_m4 171 rfl
theorem q900 : (Jvm.Cond.declares ({ cls := "java/util/Map", name := "entrySet", desc := "()Ljava/util/Set;" } : Jvm.MethodName)) ∈ lw_tbl := lw_at lw_m4 172 rfl
theorem q1076 : (Jvm.Cond.interfaceMethod "java/util/Map" "java/util/Map" "get" "(Ljava/lang/Object;)Ljava/lang/Object;") ∈ lw_tbl := lw_at lw_m5 108 rfl
theorem q1077 : (Jvm.Cond.declares ({ cls := "java/util/Map", name := "get", desc := "(Ljava/lang/Object;)Ljava/lang/Object;" } : Jvm.MethodName)) ∈ lw_tbl := lw_at lw_m5 109 rfl
theorem q1086 : (Jvm.Cond.interfaceMethod "java/util/Map" "java/util/Map" "containsKey" "(Ljava/lang/Object;)Z") ∈ lw_tbl := lw_at lw_m5 118 rfl
theorem q1087 : (Jvm.Cond.declares ({ cls := "java/util/Map", name := "containsKey", desc := "(Ljava/lang/Object;)Z" } : Jvm.MethodName)) ∈ lw_tbl := lw_at lw_m5 119 rfl
theorem q947 : (Jvm.Cond.interfaceMethod "java/util/Map$Entry" "java/util/Map$Entry" "getKey" "()Ljava/lang/Object;") ∈ lw_tbl := lw_at lw_m4 219 rfl
set_option maxRecDepth 100000
theorem q948 : (Jvm.Cond.declares ({ cls := "java/util/Map$Entry", name := "getKey", desc := "()Ljava/lang/Object;" } : Jvm.MethodName)) ∈ lw_tbl := lw_at lw_m4 220 rfl
theorem q961 : (Jvm.Cond.interfaceMethod "java/util/Map$Entry" "java/util/Map$Entry" "getValue" "()Ljava/lang/Object;") ∈ lw_tbl := lw_at lw_m4 233 rfl
theorem q962 : (Jvm.Cond.declares ({ cls := "java/util/Map$Entry", name := "getValue", desc := "()Ljava/lang/Object;" } : Jvm.MethodName)) ∈ lw_tbl := lw_at lw_m4 234 rfl
theorem q1027 : (Jvm.Cond.interfaceMethod "java/util/Map$Entry" "java/util/Map$Entry" "setValue" "(Ljava/lang/Object;)Ljava/lang/Object;") ∈ lw_tbl := lw_at lw_m5 59 rfl
theorem q1028 : (Jvm.Cond.declares ({ cls := "java/util/Map$Entry", name := "setValue", desc := "(Ljava/lang/Object;)Ljava/lang/Object;" } : Jvm.MethodName)) ∈ lw_tbl := lw_at lw_m5 60 rfl
theorem q668 : (Jvm.Cond.interfaceMethod "java/util/Set" "java/util/Set" "iterator" "()Ljava/util/Iterator;") ∈ lw_tbl := lw_at lw_m3 180 rfl
set_option maxRecDepth 100000
theorem q669 : (Jvm.Cond.declares ({ cls := "java/util/Set", name := "iterator", desc := "()Ljava/util/Iterator;" } : Jvm.MethodName)) ∈ lw_tbl := lw_at lw_m3 181 rfl
theorem q221 : (Jvm.Cond.arrayOver (Jvm.ClassFile.FieldType.object "java/util/HashMap$Node")) ∈ lw_tbl := lw_at lw_m1 213 rfl
set_option maxRecDepth 100000
theorem q1105 : (Jvm.Cond.arrayOver (Jvm.ClassFile.FieldType.object "HashHallModel$Pairs")) ∈ lw_tbl := lw_at lw_m5 137 rfl
theorem q1148 : (Jvm.Cond.arrayClass Jvm.ClassFile.FieldType.int) ∈ lw_all := lw_g (lw_at lw_m5 180 rfl) rfl
