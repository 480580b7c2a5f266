set_option maxRecDepth 100000
def RX2 : String := "HashHallModel$Pairs"
def TX2 : u_T := fun k => match k with
  | 0 => ("HashHallModel$Pairs", "sorted", "[I", false)
  | 1 => ("HashHallModel$Pairs", "key", "[I", false)
  | 2 => ("HashHallModel$Pairs", "value", "[I", false)
  | 3 => ("HashHallModel$Pairs", "before", "[I", false)
  | 4 => ("HashHallModel$Pairs", "behind", "[I", false)
  | 5 => ("HashHallModel$Pairs", "many", "I", false)
  | 6 => ("HashHallModel$Pairs", "free", "I", false)
  | 7 => ("HashHallModel$Pairs", "made", "I", false)
  | 8 => ("HashHallModel$Pairs", "first", "I", false)
  | _ => ("HashHallModel$Pairs", "last", "I", false)
def tyX2 : Nat → FieldType := fun k => match k with
  | 0 => .array .int
  | 1 => .array .int
  | 2 => .array .int
  | 3 => .array .int
  | 4 => .array .int
  | 5 => .int
  | 6 => .int
  | 7 => .int
  | 8 => .int
  | _ => .int
abbrev wsX20 : List Cond := u_ws RX2 TX2 10
theorem nmX2 : ∀ a, a < 10 → ∀ b, b < 10 → a ≠ b → (TX2 a).2.1 ≠ (TX2 b).2.1 := by decide +kernel
theorem tyX2_ok : ∀ k, k < 10 → parseFieldDescriptor (TX2 k).2.2.1 = some (tyX2 k) := by decide +kernel
abbrev cX2_init : ByteArray := prog_4_method_1_code
def yX2_init : MethodName := ⟨RX2, "<init>", "()V"⟩
theorem dX2_init_0 : decode cX2_init 0 = .ok (.aload_n 0, 1) := by decide +kernel
theorem dX2_init_1 : decode cX2_init 1 = .ok (.invokespecial 1, 3) := by decide +kernel
theorem dX2_init_4 : decode cX2_init 4 = .ok (.aload_n 0, 1) := by decide +kernel
theorem dX2_init_5 : decode cX2_init 5 = .ok (.bipush 16, 2) := by decide +kernel
theorem dX2_init_7 : decode cX2_init 7 = .ok (.newarray .int, 2) := by decide +kernel
theorem dX2_init_9 : decode cX2_init 9 = .ok (.putfield 7, 3) := by decide +kernel
theorem dX2_init_12 : decode cX2_init 12 = .ok (.aload_n 0, 1) := by decide +kernel
theorem dX2_init_13 : decode cX2_init 13 = .ok (.bipush 16, 2) := by decide +kernel
theorem dX2_init_15 : decode cX2_init 15 = .ok (.newarray .int, 2) := by decide +kernel
theorem dX2_init_17 : decode cX2_init 17 = .ok (.putfield 13, 3) := by decide +kernel
theorem dX2_init_20 : decode cX2_init 20 = .ok (.aload_n 0, 1) := by decide +kernel
theorem dX2_init_21 : decode cX2_init 21 = .ok (.bipush 16, 2) := by decide +kernel
theorem dX2_init_23 : decode cX2_init 23 = .ok (.newarray .int, 2) := by decide +kernel
theorem dX2_init_25 : decode cX2_init 25 = .ok (.putfield 16, 3) := by decide +kernel
theorem dX2_init_28 : decode cX2_init 28 = .ok (.aload_n 0, 1) := by decide +kernel
theorem dX2_init_29 : decode cX2_init 29 = .ok (.bipush 16, 2) := by decide +kernel
theorem dX2_init_31 : decode cX2_init 31 = .ok (.newarray .int, 2) := by decide +kernel
theorem dX2_init_33 : decode cX2_init 33 = .ok (.putfield 19, 3) := by decide +kernel
theorem dX2_init_36 : decode cX2_init 36 = .ok (.aload_n 0, 1) := by decide +kernel
theorem dX2_init_37 : decode cX2_init 37 = .ok (.bipush 16, 2) := by decide +kernel
theorem dX2_init_39 : decode cX2_init 39 = .ok (.newarray .int, 2) := by decide +kernel
theorem dX2_init_41 : decode cX2_init 41 = .ok (.putfield 22, 3) := by decide +kernel
theorem dX2_init_44 : decode cX2_init 44 = .ok (.aload_n 0, 1) := by decide +kernel
theorem dX2_init_45 : decode cX2_init 45 = .ok (.iconst (-1), 1) := by decide +kernel
theorem dX2_init_46 : decode cX2_init 46 = .ok (.putfield 25, 3) := by decide +kernel
theorem dX2_init_49 : decode cX2_init 49 = .ok (.aload_n 0, 1) := by decide +kernel
theorem dX2_init_50 : decode cX2_init 50 = .ok (.iconst (-1), 1) := by decide +kernel
theorem dX2_init_51 : decode cX2_init 51 = .ok (.putfield 29, 3) := by decide +kernel
theorem dX2_init_54 : decode cX2_init 54 = .ok (.aload_n 0, 1) := by decide +kernel
theorem dX2_init_55 : decode cX2_init 55 = .ok (.iconst (-1), 1) := by decide +kernel
theorem dX2_init_56 : decode cX2_init 56 = .ok (.putfield 32, 3) := by decide +kernel
theorem dX2_init_59 : decode cX2_init 59 = .ok (.return_, 1) := by decide +kernel
abbrev cX2_find : ByteArray := prog_4_method_3_code
def yX2_find : MethodName := ⟨RX2, "find", "(I)I"⟩
theorem dX2_find_0 : decode cX2_find 0 = .ok (.aload_n 0, 1) := by decide +kernel
theorem dX2_find_1 : decode cX2_find 1 = .ok (.iload_n 1, 1) := by decide +kernel
theorem dX2_find_2 : decode cX2_find 2 = .ok (.invokevirtual 38, 3) := by decide +kernel
theorem dX2_find_5 : decode cX2_find 5 = .ok (.istore_n 2, 1) := by decide +kernel
theorem dX2_find_6 : decode cX2_find 6 = .ok (.iload_n 2, 1) := by decide +kernel
theorem dX2_find_7 : decode cX2_find 7 = .ok (.aload_n 0, 1) := by decide +kernel
theorem dX2_find_8 : decode cX2_find 8 = .ok (.getfield 35, 3) := by decide +kernel
theorem dX2_find_11 : decode cX2_find 11 = .ok (.if_icmp .ge 27, 3) := by decide +kernel
theorem dX2_find_14 : decode cX2_find 14 = .ok (.aload_n 0, 1) := by decide +kernel
theorem dX2_find_15 : decode cX2_find 15 = .ok (.getfield 13, 3) := by decide +kernel
theorem dX2_find_18 : decode cX2_find 18 = .ok (.aload_n 0, 1) := by decide +kernel
theorem dX2_find_19 : decode cX2_find 19 = .ok (.getfield 7, 3) := by decide +kernel
theorem dX2_find_22 : decode cX2_find 22 = .ok (.iload_n 2, 1) := by decide +kernel
theorem dX2_find_23 : decode cX2_find 23 = .ok (.iaload, 1) := by decide +kernel
theorem dX2_find_24 : decode cX2_find 24 = .ok (.iaload, 1) := by decide +kernel
theorem dX2_find_25 : decode cX2_find 25 = .ok (.iload_n 1, 1) := by decide +kernel
theorem dX2_find_26 : decode cX2_find 26 = .ok (.if_icmp .ne 12, 3) := by decide +kernel
theorem dX2_find_29 : decode cX2_find 29 = .ok (.aload_n 0, 1) := by decide +kernel
theorem dX2_find_30 : decode cX2_find 30 = .ok (.getfield 7, 3) := by decide +kernel
theorem dX2_find_33 : decode cX2_find 33 = .ok (.iload_n 2, 1) := by decide +kernel
theorem dX2_find_34 : decode cX2_find 34 = .ok (.iaload, 1) := by decide +kernel
theorem dX2_find_35 : decode cX2_find 35 = .ok (.goto 4, 3) := by decide +kernel
theorem dX2_find_38 : decode cX2_find 38 = .ok (.iconst (-1), 1) := by decide +kernel
theorem dX2_find_39 : decode cX2_find 39 = .ok (.ireturn, 1) := by decide +kernel
abbrev cX2_rankOf : ByteArray := prog_4_method_2_code
def yX2_rankOf : MethodName := ⟨RX2, "rankOf", "(I)I"⟩
theorem dX2_rankOf_0 : decode cX2_rankOf 0 = .ok (.iconst 0, 1) := by decide +kernel
theorem dX2_rankOf_1 : decode cX2_rankOf 1 = .ok (.istore_n 2, 1) := by decide +kernel
theorem dX2_rankOf_2 : decode cX2_rankOf 2 = .ok (.aload_n 0, 1) := by decide +kernel
theorem dX2_rankOf_3 : decode cX2_rankOf 3 = .ok (.getfield 35, 3) := by decide +kernel
theorem dX2_rankOf_6 : decode cX2_rankOf 6 = .ok (.istore_n 3, 1) := by decide +kernel
theorem dX2_rankOf_7 : decode cX2_rankOf 7 = .ok (.iload_n 2, 1) := by decide +kernel
theorem dX2_rankOf_8 : decode cX2_rankOf 8 = .ok (.iload_n 3, 1) := by decide +kernel
theorem dX2_rankOf_9 : decode cX2_rankOf 9 = .ok (.if_icmp .ge 40, 3) := by decide +kernel
theorem dX2_rankOf_12 : decode cX2_rankOf 12 = .ok (.iload_n 2, 1) := by decide +kernel
theorem dX2_rankOf_13 : decode cX2_rankOf 13 = .ok (.iload_n 3, 1) := by decide +kernel
theorem dX2_rankOf_14 : decode cX2_rankOf 14 = .ok (.iadd, 1) := by decide +kernel
theorem dX2_rankOf_15 : decode cX2_rankOf 15 = .ok (.iconst 2, 1) := by decide +kernel
theorem dX2_rankOf_16 : decode cX2_rankOf 16 = .ok (.idiv, 1) := by decide +kernel
theorem dX2_rankOf_17 : decode cX2_rankOf 17 = .ok (.istore 4, 2) := by decide +kernel
theorem dX2_rankOf_19 : decode cX2_rankOf 19 = .ok (.aload_n 0, 1) := by decide +kernel
theorem dX2_rankOf_20 : decode cX2_rankOf 20 = .ok (.getfield 13, 3) := by decide +kernel
theorem dX2_rankOf_23 : decode cX2_rankOf 23 = .ok (.aload_n 0, 1) := by decide +kernel
theorem dX2_rankOf_24 : decode cX2_rankOf 24 = .ok (.getfield 7, 3) := by decide +kernel
theorem dX2_rankOf_27 : decode cX2_rankOf 27 = .ok (.iload 4, 2) := by decide +kernel
theorem dX2_rankOf_29 : decode cX2_rankOf 29 = .ok (.iaload, 1) := by decide +kernel
theorem dX2_rankOf_30 : decode cX2_rankOf 30 = .ok (.iaload, 1) := by decide +kernel
theorem dX2_rankOf_31 : decode cX2_rankOf 31 = .ok (.iload_n 1, 1) := by decide +kernel
theorem dX2_rankOf_32 : decode cX2_rankOf 32 = .ok (.if_icmp .ge 11, 3) := by decide +kernel
theorem dX2_rankOf_35 : decode cX2_rankOf 35 = .ok (.iload 4, 2) := by decide +kernel
theorem dX2_rankOf_37 : decode cX2_rankOf 37 = .ok (.iconst 1, 1) := by decide +kernel
theorem dX2_rankOf_38 : decode cX2_rankOf 38 = .ok (.iadd, 1) := by decide +kernel
theorem dX2_rankOf_39 : decode cX2_rankOf 39 = .ok (.istore_n 2, 1) := by decide +kernel
theorem dX2_rankOf_40 : decode cX2_rankOf 40 = .ok (.goto 6, 3) := by decide +kernel
theorem dX2_rankOf_43 : decode cX2_rankOf 43 = .ok (.iload 4, 2) := by decide +kernel
theorem dX2_rankOf_45 : decode cX2_rankOf 45 = .ok (.istore_n 3, 1) := by decide +kernel
theorem dX2_rankOf_46 : decode cX2_rankOf 46 = .ok (.goto (-39), 3) := by decide +kernel
theorem dX2_rankOf_49 : decode cX2_rankOf 49 = .ok (.iload_n 2, 1) := by decide +kernel
theorem dX2_rankOf_50 : decode cX2_rankOf 50 = .ok (.ireturn, 1) := by decide +kernel
abbrev cX2_insert : ByteArray := prog_4_method_5_code
def yX2_insert : MethodName := ⟨RX2, "insert", "(II)V"⟩
theorem dX2_insert_0 : decode cX2_insert 0 = .ok (.aload_n 0, 1) := by decide +kernel
theorem dX2_insert_1 : decode cX2_insert 1 = .ok (.getfield 25, 3) := by decide +kernel
theorem dX2_insert_4 : decode cX2_insert 4 = .ok (.istore_n 3, 1) := by decide +kernel
theorem dX2_insert_5 : decode cX2_insert 5 = .ok (.iload_n 3, 1) := by decide +kernel
theorem dX2_insert_6 : decode cX2_insert 6 = .ok (.ifCond .lt 16, 3) := by decide +kernel
theorem dX2_insert_9 : decode cX2_insert 9 = .ok (.aload_n 0, 1) := by decide +kernel
theorem dX2_insert_10 : decode cX2_insert 10 = .ok (.aload_n 0, 1) := by decide +kernel
theorem dX2_insert_11 : decode cX2_insert 11 = .ok (.getfield 22, 3) := by decide +kernel
theorem dX2_insert_14 : decode cX2_insert 14 = .ok (.iload_n 3, 1) := by decide +kernel
theorem dX2_insert_15 : decode cX2_insert 15 = .ok (.iaload, 1) := by decide +kernel
theorem dX2_insert_16 : decode cX2_insert 16 = .ok (.putfield 25, 3) := by decide +kernel
theorem dX2_insert_19 : decode cX2_insert 19 = .ok (.goto 34, 3) := by decide +kernel
theorem dX2_insert_22 : decode cX2_insert 22 = .ok (.aload_n 0, 1) := by decide +kernel
theorem dX2_insert_23 : decode cX2_insert 23 = .ok (.getfield 42, 3) := by decide +kernel
theorem dX2_insert_26 : decode cX2_insert 26 = .ok (.aload_n 0, 1) := by decide +kernel
theorem dX2_insert_27 : decode cX2_insert 27 = .ok (.getfield 13, 3) := by decide +kernel
theorem dX2_insert_30 : decode cX2_insert 30 = .ok (.arraylength, 1) := by decide +kernel
theorem dX2_insert_31 : decode cX2_insert 31 = .ok (.if_icmp .ne 7, 3) := by decide +kernel
theorem dX2_insert_34 : decode cX2_insert 34 = .ok (.aload_n 0, 1) := by decide +kernel
theorem dX2_insert_35 : decode cX2_insert 35 = .ok (.invokevirtual 51, 3) := by decide +kernel
theorem dX2_insert_38 : decode cX2_insert 38 = .ok (.aload_n 0, 1) := by decide +kernel
theorem dX2_insert_39 : decode cX2_insert 39 = .ok (.getfield 42, 3) := by decide +kernel
theorem dX2_insert_42 : decode cX2_insert 42 = .ok (.istore_n 3, 1) := by decide +kernel
theorem dX2_insert_43 : decode cX2_insert 43 = .ok (.aload_n 0, 1) := by decide +kernel
theorem dX2_insert_44 : decode cX2_insert 44 = .ok (.dup, 1) := by decide +kernel
theorem dX2_insert_45 : decode cX2_insert 45 = .ok (.getfield 42, 3) := by decide +kernel
theorem dX2_insert_48 : decode cX2_insert 48 = .ok (.iconst 1, 1) := by decide +kernel
theorem dX2_insert_49 : decode cX2_insert 49 = .ok (.iadd, 1) := by decide +kernel
theorem dX2_insert_50 : decode cX2_insert 50 = .ok (.putfield 42, 3) := by decide +kernel
theorem dX2_insert_53 : decode cX2_insert 53 = .ok (.aload_n 0, 1) := by decide +kernel
theorem dX2_insert_54 : decode cX2_insert 54 = .ok (.getfield 13, 3) := by decide +kernel
theorem dX2_insert_57 : decode cX2_insert 57 = .ok (.iload_n 3, 1) := by decide +kernel
theorem dX2_insert_58 : decode cX2_insert 58 = .ok (.iload_n 1, 1) := by decide +kernel
theorem dX2_insert_59 : decode cX2_insert 59 = .ok (.iastore, 1) := by decide +kernel
theorem dX2_insert_60 : decode cX2_insert 60 = .ok (.aload_n 0, 1) := by decide +kernel
theorem dX2_insert_61 : decode cX2_insert 61 = .ok (.getfield 16, 3) := by decide +kernel
theorem dX2_insert_64 : decode cX2_insert 64 = .ok (.iload_n 3, 1) := by decide +kernel
theorem dX2_insert_65 : decode cX2_insert 65 = .ok (.iload_n 2, 1) := by decide +kernel
theorem dX2_insert_66 : decode cX2_insert 66 = .ok (.iastore, 1) := by decide +kernel
theorem dX2_insert_67 : decode cX2_insert 67 = .ok (.aload_n 0, 1) := by decide +kernel
theorem dX2_insert_68 : decode cX2_insert 68 = .ok (.iload_n 1, 1) := by decide +kernel
theorem dX2_insert_69 : decode cX2_insert 69 = .ok (.invokevirtual 38, 3) := by decide +kernel
theorem dX2_insert_72 : decode cX2_insert 72 = .ok (.istore 4, 2) := by decide +kernel
theorem dX2_insert_74 : decode cX2_insert 74 = .ok (.aload_n 0, 1) := by decide +kernel
theorem dX2_insert_75 : decode cX2_insert 75 = .ok (.getfield 7, 3) := by decide +kernel
theorem dX2_insert_78 : decode cX2_insert 78 = .ok (.iload 4, 2) := by decide +kernel
theorem dX2_insert_80 : decode cX2_insert 80 = .ok (.aload_n 0, 1) := by decide +kernel
theorem dX2_insert_81 : decode cX2_insert 81 = .ok (.getfield 7, 3) := by decide +kernel
theorem dX2_insert_84 : decode cX2_insert 84 = .ok (.iload 4, 2) := by decide +kernel
theorem dX2_insert_86 : decode cX2_insert 86 = .ok (.iconst 1, 1) := by decide +kernel
theorem dX2_insert_87 : decode cX2_insert 87 = .ok (.iadd, 1) := by decide +kernel
theorem dX2_insert_88 : decode cX2_insert 88 = .ok (.aload_n 0, 1) := by decide +kernel
theorem dX2_insert_89 : decode cX2_insert 89 = .ok (.getfield 35, 3) := by decide +kernel
theorem dX2_insert_92 : decode cX2_insert 92 = .ok (.iload 4, 2) := by decide +kernel
theorem dX2_insert_94 : decode cX2_insert 94 = .ok (.isub, 1) := by decide +kernel
theorem dX2_insert_95 : decode cX2_insert 95 = .ok (.invokestatic 54, 3) := by decide +kernel
theorem dX2_insert_98 : decode cX2_insert 98 = .ok (.aload_n 0, 1) := by decide +kernel
theorem dX2_insert_99 : decode cX2_insert 99 = .ok (.getfield 7, 3) := by decide +kernel
theorem dX2_insert_102 : decode cX2_insert 102 = .ok (.iload 4, 2) := by decide +kernel
theorem dX2_insert_104 : decode cX2_insert 104 = .ok (.iload_n 3, 1) := by decide +kernel
theorem dX2_insert_105 : decode cX2_insert 105 = .ok (.iastore, 1) := by decide +kernel
theorem dX2_insert_106 : decode cX2_insert 106 = .ok (.aload_n 0, 1) := by decide +kernel
theorem dX2_insert_107 : decode cX2_insert 107 = .ok (.dup, 1) := by decide +kernel
theorem dX2_insert_108 : decode cX2_insert 108 = .ok (.getfield 35, 3) := by decide +kernel
theorem dX2_insert_111 : decode cX2_insert 111 = .ok (.iconst 1, 1) := by decide +kernel
theorem dX2_insert_112 : decode cX2_insert 112 = .ok (.iadd, 1) := by decide +kernel
theorem dX2_insert_113 : decode cX2_insert 113 = .ok (.putfield 35, 3) := by decide +kernel
theorem dX2_insert_116 : decode cX2_insert 116 = .ok (.aload_n 0, 1) := by decide +kernel
theorem dX2_insert_117 : decode cX2_insert 117 = .ok (.iload_n 3, 1) := by decide +kernel
theorem dX2_insert_118 : decode cX2_insert 118 = .ok (.invokevirtual 60, 3) := by decide +kernel
theorem dX2_insert_121 : decode cX2_insert 121 = .ok (.return_, 1) := by decide +kernel
abbrev cX2_grow : ByteArray := prog_4_method_4_code
def yX2_grow : MethodName := ⟨RX2, "grow", "()V"⟩
theorem dX2_grow_0 : decode cX2_grow 0 = .ok (.iconst 2, 1) := by decide +kernel
theorem dX2_grow_1 : decode cX2_grow 1 = .ok (.aload_n 0, 1) := by decide +kernel
theorem dX2_grow_2 : decode cX2_grow 2 = .ok (.getfield 42, 3) := by decide +kernel
theorem dX2_grow_5 : decode cX2_grow 5 = .ok (.imul, 1) := by decide +kernel
theorem dX2_grow_6 : decode cX2_grow 6 = .ok (.istore_n 1, 1) := by decide +kernel
theorem dX2_grow_7 : decode cX2_grow 7 = .ok (.aload_n 0, 1) := by decide +kernel
theorem dX2_grow_8 : decode cX2_grow 8 = .ok (.aload_n 0, 1) := by decide +kernel
theorem dX2_grow_9 : decode cX2_grow 9 = .ok (.getfield 7, 3) := by decide +kernel
theorem dX2_grow_12 : decode cX2_grow 12 = .ok (.iload_n 1, 1) := by decide +kernel
theorem dX2_grow_13 : decode cX2_grow 13 = .ok (.invokestatic 45, 3) := by decide +kernel
theorem dX2_grow_16 : decode cX2_grow 16 = .ok (.putfield 7, 3) := by decide +kernel
theorem dX2_grow_19 : decode cX2_grow 19 = .ok (.aload_n 0, 1) := by decide +kernel
theorem dX2_grow_20 : decode cX2_grow 20 = .ok (.aload_n 0, 1) := by decide +kernel
theorem dX2_grow_21 : decode cX2_grow 21 = .ok (.getfield 13, 3) := by decide +kernel
theorem dX2_grow_24 : decode cX2_grow 24 = .ok (.iload_n 1, 1) := by decide +kernel
theorem dX2_grow_25 : decode cX2_grow 25 = .ok (.invokestatic 45, 3) := by decide +kernel
theorem dX2_grow_28 : decode cX2_grow 28 = .ok (.putfield 13, 3) := by decide +kernel
theorem dX2_grow_31 : decode cX2_grow 31 = .ok (.aload_n 0, 1) := by decide +kernel
theorem dX2_grow_32 : decode cX2_grow 32 = .ok (.aload_n 0, 1) := by decide +kernel
theorem dX2_grow_33 : decode cX2_grow 33 = .ok (.getfield 16, 3) := by decide +kernel
theorem dX2_grow_36 : decode cX2_grow 36 = .ok (.iload_n 1, 1) := by decide +kernel
theorem dX2_grow_37 : decode cX2_grow 37 = .ok (.invokestatic 45, 3) := by decide +kernel
theorem dX2_grow_40 : decode cX2_grow 40 = .ok (.putfield 16, 3) := by decide +kernel
theorem dX2_grow_43 : decode cX2_grow 43 = .ok (.aload_n 0, 1) := by decide +kernel
theorem dX2_grow_44 : decode cX2_grow 44 = .ok (.aload_n 0, 1) := by decide +kernel
theorem dX2_grow_45 : decode cX2_grow 45 = .ok (.getfield 19, 3) := by decide +kernel
theorem dX2_grow_48 : decode cX2_grow 48 = .ok (.iload_n 1, 1) := by decide +kernel
theorem dX2_grow_49 : decode cX2_grow 49 = .ok (.invokestatic 45, 3) := by decide +kernel
theorem dX2_grow_52 : decode cX2_grow 52 = .ok (.putfield 19, 3) := by decide +kernel
theorem dX2_grow_55 : decode cX2_grow 55 = .ok (.aload_n 0, 1) := by decide +kernel
theorem dX2_grow_56 : decode cX2_grow 56 = .ok (.aload_n 0, 1) := by decide +kernel
theorem dX2_grow_57 : decode cX2_grow 57 = .ok (.getfield 22, 3) := by decide +kernel
theorem dX2_grow_60 : decode cX2_grow 60 = .ok (.iload_n 1, 1) := by decide +kernel
theorem dX2_grow_61 : decode cX2_grow 61 = .ok (.invokestatic 45, 3) := by decide +kernel
theorem dX2_grow_64 : decode cX2_grow 64 = .ok (.putfield 22, 3) := by decide +kernel
theorem dX2_grow_67 : decode cX2_grow 67 = .ok (.return_, 1) := by decide +kernel
abbrev cX2_link : ByteArray := prog_4_method_6_code
def yX2_link : MethodName := ⟨RX2, "link", "(I)V"⟩
theorem dX2_link_0 : decode cX2_link 0 = .ok (.aload_n 0, 1) := by decide +kernel
theorem dX2_link_1 : decode cX2_link 1 = .ok (.getfield 19, 3) := by decide +kernel
theorem dX2_link_4 : decode cX2_link 4 = .ok (.iload_n 1, 1) := by decide +kernel
theorem dX2_link_5 : decode cX2_link 5 = .ok (.aload_n 0, 1) := by decide +kernel
theorem dX2_link_6 : decode cX2_link 6 = .ok (.getfield 32, 3) := by decide +kernel
theorem dX2_link_9 : decode cX2_link 9 = .ok (.iastore, 1) := by decide +kernel
theorem dX2_link_10 : decode cX2_link 10 = .ok (.aload_n 0, 1) := by decide +kernel
theorem dX2_link_11 : decode cX2_link 11 = .ok (.getfield 22, 3) := by decide +kernel
theorem dX2_link_14 : decode cX2_link 14 = .ok (.iload_n 1, 1) := by decide +kernel
theorem dX2_link_15 : decode cX2_link 15 = .ok (.iconst (-1), 1) := by decide +kernel
theorem dX2_link_16 : decode cX2_link 16 = .ok (.iastore, 1) := by decide +kernel
theorem dX2_link_17 : decode cX2_link 17 = .ok (.aload_n 0, 1) := by decide +kernel
theorem dX2_link_18 : decode cX2_link 18 = .ok (.getfield 32, 3) := by decide +kernel
theorem dX2_link_21 : decode cX2_link 21 = .ok (.ifCond .lt 16, 3) := by decide +kernel
theorem dX2_link_24 : decode cX2_link 24 = .ok (.aload_n 0, 1) := by decide +kernel
theorem dX2_link_25 : decode cX2_link 25 = .ok (.getfield 22, 3) := by decide +kernel
theorem dX2_link_28 : decode cX2_link 28 = .ok (.aload_n 0, 1) := by decide +kernel
theorem dX2_link_29 : decode cX2_link 29 = .ok (.getfield 32, 3) := by decide +kernel
theorem dX2_link_32 : decode cX2_link 32 = .ok (.iload_n 1, 1) := by decide +kernel
theorem dX2_link_33 : decode cX2_link 33 = .ok (.iastore, 1) := by decide +kernel
theorem dX2_link_34 : decode cX2_link 34 = .ok (.goto 8, 3) := by decide +kernel
theorem dX2_link_37 : decode cX2_link 37 = .ok (.aload_n 0, 1) := by decide +kernel
theorem dX2_link_38 : decode cX2_link 38 = .ok (.iload_n 1, 1) := by decide +kernel
theorem dX2_link_39 : decode cX2_link 39 = .ok (.putfield 29, 3) := by decide +kernel
theorem dX2_link_42 : decode cX2_link 42 = .ok (.aload_n 0, 1) := by decide +kernel
theorem dX2_link_43 : decode cX2_link 43 = .ok (.iload_n 1, 1) := by decide +kernel
theorem dX2_link_44 : decode cX2_link 44 = .ok (.putfield 32, 3) := by decide +kernel
theorem dX2_link_47 : decode cX2_link 47 = .ok (.return_, 1) := by decide +kernel
abbrev cX2_toLast : ByteArray := prog_4_method_8_code
def yX2_toLast : MethodName := ⟨RX2, "toLast", "(I)V"⟩
theorem dX2_toLast_0 : decode cX2_toLast 0 = .ok (.aload_n 0, 1) := by decide +kernel
theorem dX2_toLast_1 : decode cX2_toLast 1 = .ok (.iload_n 1, 1) := by decide +kernel
theorem dX2_toLast_2 : decode cX2_toLast 2 = .ok (.invokevirtual 64, 3) := by decide +kernel
theorem dX2_toLast_5 : decode cX2_toLast 5 = .ok (.aload_n 0, 1) := by decide +kernel
theorem dX2_toLast_6 : decode cX2_toLast 6 = .ok (.iload_n 1, 1) := by decide +kernel
theorem dX2_toLast_7 : decode cX2_toLast 7 = .ok (.invokevirtual 60, 3) := by decide +kernel
theorem dX2_toLast_10 : decode cX2_toLast 10 = .ok (.return_, 1) := by decide +kernel
abbrev cX2_unlink : ByteArray := prog_4_method_7_code
def yX2_unlink : MethodName := ⟨RX2, "unlink", "(I)V"⟩
theorem dX2_unlink_0 : decode cX2_unlink 0 = .ok (.aload_n 0, 1) := by decide +kernel
theorem dX2_unlink_1 : decode cX2_unlink 1 = .ok (.getfield 19, 3) := by decide +kernel
theorem dX2_unlink_4 : decode cX2_unlink 4 = .ok (.iload_n 1, 1) := by decide +kernel
theorem dX2_unlink_5 : decode cX2_unlink 5 = .ok (.iaload, 1) := by decide +kernel
theorem dX2_unlink_6 : decode cX2_unlink 6 = .ok (.ifCond .lt 23, 3) := by decide +kernel
theorem dX2_unlink_9 : decode cX2_unlink 9 = .ok (.aload_n 0, 1) := by decide +kernel
theorem dX2_unlink_10 : decode cX2_unlink 10 = .ok (.getfield 22, 3) := by decide +kernel
theorem dX2_unlink_13 : decode cX2_unlink 13 = .ok (.aload_n 0, 1) := by decide +kernel
theorem dX2_unlink_14 : decode cX2_unlink 14 = .ok (.getfield 19, 3) := by decide +kernel
theorem dX2_unlink_17 : decode cX2_unlink 17 = .ok (.iload_n 1, 1) := by decide +kernel
theorem dX2_unlink_18 : decode cX2_unlink 18 = .ok (.iaload, 1) := by decide +kernel
theorem dX2_unlink_19 : decode cX2_unlink 19 = .ok (.aload_n 0, 1) := by decide +kernel
theorem dX2_unlink_20 : decode cX2_unlink 20 = .ok (.getfield 22, 3) := by decide +kernel
theorem dX2_unlink_23 : decode cX2_unlink 23 = .ok (.iload_n 1, 1) := by decide +kernel
theorem dX2_unlink_24 : decode cX2_unlink 24 = .ok (.iaload, 1) := by decide +kernel
theorem dX2_unlink_25 : decode cX2_unlink 25 = .ok (.iastore, 1) := by decide +kernel
theorem dX2_unlink_26 : decode cX2_unlink 26 = .ok (.goto 13, 3) := by decide +kernel
theorem dX2_unlink_29 : decode cX2_unlink 29 = .ok (.aload_n 0, 1) := by decide +kernel
theorem dX2_unlink_30 : decode cX2_unlink 30 = .ok (.aload_n 0, 1) := by decide +kernel
theorem dX2_unlink_31 : decode cX2_unlink 31 = .ok (.getfield 22, 3) := by decide +kernel
theorem dX2_unlink_34 : decode cX2_unlink 34 = .ok (.iload_n 1, 1) := by decide +kernel
theorem dX2_unlink_35 : decode cX2_unlink 35 = .ok (.iaload, 1) := by decide +kernel
theorem dX2_unlink_36 : decode cX2_unlink 36 = .ok (.putfield 29, 3) := by decide +kernel
theorem dX2_unlink_39 : decode cX2_unlink 39 = .ok (.aload_n 0, 1) := by decide +kernel
theorem dX2_unlink_40 : decode cX2_unlink 40 = .ok (.getfield 22, 3) := by decide +kernel
theorem dX2_unlink_43 : decode cX2_unlink 43 = .ok (.iload_n 1, 1) := by decide +kernel
theorem dX2_unlink_44 : decode cX2_unlink 44 = .ok (.iaload, 1) := by decide +kernel
theorem dX2_unlink_45 : decode cX2_unlink 45 = .ok (.ifCond .lt 23, 3) := by decide +kernel
theorem dX2_unlink_48 : decode cX2_unlink 48 = .ok (.aload_n 0, 1) := by decide +kernel
theorem dX2_unlink_49 : decode cX2_unlink 49 = .ok (.getfield 19, 3) := by decide +kernel
theorem dX2_unlink_52 : decode cX2_unlink 52 = .ok (.aload_n 0, 1) := by decide +kernel
theorem dX2_unlink_53 : decode cX2_unlink 53 = .ok (.getfield 22, 3) := by decide +kernel
theorem dX2_unlink_56 : decode cX2_unlink 56 = .ok (.iload_n 1, 1) := by decide +kernel
theorem dX2_unlink_57 : decode cX2_unlink 57 = .ok (.iaload, 1) := by decide +kernel
theorem dX2_unlink_58 : decode cX2_unlink 58 = .ok (.aload_n 0, 1) := by decide +kernel
theorem dX2_unlink_59 : decode cX2_unlink 59 = .ok (.getfield 19, 3) := by decide +kernel
theorem dX2_unlink_62 : decode cX2_unlink 62 = .ok (.iload_n 1, 1) := by decide +kernel
theorem dX2_unlink_63 : decode cX2_unlink 63 = .ok (.iaload, 1) := by decide +kernel
theorem dX2_unlink_64 : decode cX2_unlink 64 = .ok (.iastore, 1) := by decide +kernel
theorem dX2_unlink_65 : decode cX2_unlink 65 = .ok (.goto 13, 3) := by decide +kernel
theorem dX2_unlink_68 : decode cX2_unlink 68 = .ok (.aload_n 0, 1) := by decide +kernel
theorem dX2_unlink_69 : decode cX2_unlink 69 = .ok (.aload_n 0, 1) := by decide +kernel
theorem dX2_unlink_70 : decode cX2_unlink 70 = .ok (.getfield 19, 3) := by decide +kernel
theorem dX2_unlink_73 : decode cX2_unlink 73 = .ok (.iload_n 1, 1) := by decide +kernel
theorem dX2_unlink_74 : decode cX2_unlink 74 = .ok (.iaload, 1) := by decide +kernel
theorem dX2_unlink_75 : decode cX2_unlink 75 = .ok (.putfield 32, 3) := by decide +kernel
theorem dX2_unlink_78 : decode cX2_unlink 78 = .ok (.return_, 1) := by decide +kernel
abbrev cX2_delete : ByteArray := prog_4_method_9_code
def yX2_delete : MethodName := ⟨RX2, "delete", "(I)V"⟩
theorem dX2_delete_0 : decode cX2_delete 0 = .ok (.aload_n 0, 1) := by decide +kernel
theorem dX2_delete_1 : decode cX2_delete 1 = .ok (.aload_n 0, 1) := by decide +kernel
theorem dX2_delete_2 : decode cX2_delete 2 = .ok (.getfield 13, 3) := by decide +kernel
theorem dX2_delete_5 : decode cX2_delete 5 = .ok (.iload_n 1, 1) := by decide +kernel
theorem dX2_delete_6 : decode cX2_delete 6 = .ok (.iaload, 1) := by decide +kernel
theorem dX2_delete_7 : decode cX2_delete 7 = .ok (.invokevirtual 38, 3) := by decide +kernel
theorem dX2_delete_10 : decode cX2_delete 10 = .ok (.istore_n 2, 1) := by decide +kernel
theorem dX2_delete_11 : decode cX2_delete 11 = .ok (.aload_n 0, 1) := by decide +kernel
theorem dX2_delete_12 : decode cX2_delete 12 = .ok (.dup, 1) := by decide +kernel
theorem dX2_delete_13 : decode cX2_delete 13 = .ok (.getfield 35, 3) := by decide +kernel
theorem dX2_delete_16 : decode cX2_delete 16 = .ok (.iconst 1, 1) := by decide +kernel
theorem dX2_delete_17 : decode cX2_delete 17 = .ok (.isub, 1) := by decide +kernel
theorem dX2_delete_18 : decode cX2_delete 18 = .ok (.putfield 35, 3) := by decide +kernel
theorem dX2_delete_21 : decode cX2_delete 21 = .ok (.aload_n 0, 1) := by decide +kernel
theorem dX2_delete_22 : decode cX2_delete 22 = .ok (.getfield 7, 3) := by decide +kernel
theorem dX2_delete_25 : decode cX2_delete 25 = .ok (.iload_n 2, 1) := by decide +kernel
theorem dX2_delete_26 : decode cX2_delete 26 = .ok (.iconst 1, 1) := by decide +kernel
theorem dX2_delete_27 : decode cX2_delete 27 = .ok (.iadd, 1) := by decide +kernel
theorem dX2_delete_28 : decode cX2_delete 28 = .ok (.aload_n 0, 1) := by decide +kernel
theorem dX2_delete_29 : decode cX2_delete 29 = .ok (.getfield 7, 3) := by decide +kernel
theorem dX2_delete_32 : decode cX2_delete 32 = .ok (.iload_n 2, 1) := by decide +kernel
theorem dX2_delete_33 : decode cX2_delete 33 = .ok (.aload_n 0, 1) := by decide +kernel
theorem dX2_delete_34 : decode cX2_delete 34 = .ok (.getfield 35, 3) := by decide +kernel
theorem dX2_delete_37 : decode cX2_delete 37 = .ok (.iload_n 2, 1) := by decide +kernel
theorem dX2_delete_38 : decode cX2_delete 38 = .ok (.isub, 1) := by decide +kernel
theorem dX2_delete_39 : decode cX2_delete 39 = .ok (.invokestatic 54, 3) := by decide +kernel
theorem dX2_delete_42 : decode cX2_delete 42 = .ok (.aload_n 0, 1) := by decide +kernel
theorem dX2_delete_43 : decode cX2_delete 43 = .ok (.iload_n 1, 1) := by decide +kernel
theorem dX2_delete_44 : decode cX2_delete 44 = .ok (.invokevirtual 64, 3) := by decide +kernel
theorem dX2_delete_47 : decode cX2_delete 47 = .ok (.aload_n 0, 1) := by decide +kernel
theorem dX2_delete_48 : decode cX2_delete 48 = .ok (.getfield 22, 3) := by decide +kernel
theorem dX2_delete_51 : decode cX2_delete 51 = .ok (.iload_n 1, 1) := by decide +kernel
theorem dX2_delete_52 : decode cX2_delete 52 = .ok (.aload_n 0, 1) := by decide +kernel
theorem dX2_delete_53 : decode cX2_delete 53 = .ok (.getfield 25, 3) := by decide +kernel
theorem dX2_delete_56 : decode cX2_delete 56 = .ok (.iastore, 1) := by decide +kernel
theorem dX2_delete_57 : decode cX2_delete 57 = .ok (.aload_n 0, 1) := by decide +kernel
theorem dX2_delete_58 : decode cX2_delete 58 = .ok (.iload_n 1, 1) := by decide +kernel
theorem dX2_delete_59 : decode cX2_delete 59 = .ok (.putfield 25, 3) := by decide +kernel
theorem dX2_delete_62 : decode cX2_delete 62 = .ok (.return_, 1) := by decide +kernel
abbrev cX2_clear : ByteArray := prog_4_method_10_code
def yX2_clear : MethodName := ⟨RX2, "clear", "()V"⟩
theorem dX2_clear_0 : decode cX2_clear 0 = .ok (.aload_n 0, 1) := by decide +kernel
theorem dX2_clear_1 : decode cX2_clear 1 = .ok (.iconst 0, 1) := by decide +kernel
theorem dX2_clear_2 : decode cX2_clear 2 = .ok (.putfield 35, 3) := by decide +kernel
theorem dX2_clear_5 : decode cX2_clear 5 = .ok (.aload_n 0, 1) := by decide +kernel
theorem dX2_clear_6 : decode cX2_clear 6 = .ok (.iconst (-1), 1) := by decide +kernel
theorem dX2_clear_7 : decode cX2_clear 7 = .ok (.putfield 25, 3) := by decide +kernel
theorem dX2_clear_10 : decode cX2_clear 10 = .ok (.aload_n 0, 1) := by decide +kernel
theorem dX2_clear_11 : decode cX2_clear 11 = .ok (.iconst 0, 1) := by decide +kernel
theorem dX2_clear_12 : decode cX2_clear 12 = .ok (.putfield 42, 3) := by decide +kernel
theorem dX2_clear_15 : decode cX2_clear 15 = .ok (.aload_n 0, 1) := by decide +kernel
theorem dX2_clear_16 : decode cX2_clear 16 = .ok (.iconst (-1), 1) := by decide +kernel
theorem dX2_clear_17 : decode cX2_clear 17 = .ok (.putfield 29, 3) := by decide +kernel
theorem dX2_clear_20 : decode cX2_clear 20 = .ok (.aload_n 0, 1) := by decide +kernel
theorem dX2_clear_21 : decode cX2_clear 21 = .ok (.iconst (-1), 1) := by decide +kernel
theorem dX2_clear_22 : decode cX2_clear 22 = .ok (.putfield 32, 3) := by decide +kernel
theorem dX2_clear_25 : decode cX2_clear 25 = .ok (.return_, 1) := by decide +kernel
theorem q17 : (Jvm.Cond.initialized "HashHallModel$Pairs") ∈ lw_all := lw_g (lw_at lw_m1 9 rfl) rfl
theorem q198 : (Jvm.Cond.selects "HashHallModel$Pairs" ({ cls := "java/lang/Object", name := "hashCode", desc := "()I" } : Jvm.MethodName) ({ cls := "java/lang/Object", name := "hashCode", desc := "()I" } : Jvm.MethodName)) ∈ lw_all := lw_g (lw_at lw_m1 190 rfl) rfl
theorem q319 : (Jvm.Cond.selects "HashHallModel$Pairs" ({ cls := "java/lang/Object", name := "getClass", desc := "()Ljava/lang/Class;" } : Jvm.MethodName) ({ cls := "java/lang/Object", name := "getClass", desc := "()Ljava/lang/Class;" } : Jvm.MethodName)) ∈ lw_all := lw_g (lw_at lw_m2 71 rfl) rfl
theorem q387 : (Jvm.Cond.selects "HashHallModel$Pairs" ({ cls := "java/lang/Object", name := "equals", desc := "(Ljava/lang/Object;)Z" } : Jvm.MethodName) ({ cls := "java/lang/Object", name := "equals", desc := "(Ljava/lang/Object;)Z" } : Jvm.MethodName)) ∈ lw_all := lw_g (lw_at lw_m2 139 rfl) rfl
theorem q1106 : (Jvm.Cond.instantiable "HashHallModel$Pairs" (10 : Nat)) ∈ lw_all := lw_g (lw_at lw_m5 138 rfl) rfl
theorem q1108 : (Jvm.Cond.instanceMethod ({ cls := "HashHallModel$Pairs", name := "<init>", desc := "()V" } : Jvm.MethodName)) ∈ lw_all := lw_g (lw_at lw_m5 140 rfl) rfl
theorem q1109 : (Jvm.Cond.code ({ cls := "HashHallModel$Pairs", name := "<init>", desc := "()V" } : Jvm.MethodName) prog_4_method_1_code (1 : Nat) (Option.none : Option Jvm.ClassFile.FieldType)) ∈ lw_all := lw_g (lw_at lw_m5 141 rfl) rfl
theorem q1110 : (Jvm.Cond.methodLink "HashHallModel$Pairs" (1 : Nat) ({ cls := "java/lang/Object", name := "<init>", desc := "()V" } : Jvm.MethodName)) ∈ lw_all := lw_g (lw_at lw_m5 142 rfl) rfl
theorem q1111 : (Jvm.Cond.fieldLink "HashHallModel$Pairs" (7 : Nat) "HashHallModel$Pairs" "sorted" "[I") ∈ lw_all := lw_g (lw_at lw_m5 143 rfl) rfl
theorem q1113 : (Jvm.Cond.fieldLink "HashHallModel$Pairs" (13 : Nat) "HashHallModel$Pairs" "key" "[I") ∈ lw_all := lw_g (lw_at lw_m5 145 rfl) rfl
theorem q1115 : (Jvm.Cond.fieldLink "HashHallModel$Pairs" (16 : Nat) "HashHallModel$Pairs" "value" "[I") ∈ lw_all := lw_g (lw_at lw_m5 147 rfl) rfl
theorem q1117 : (Jvm.Cond.fieldLink "HashHallModel$Pairs" (19 : Nat) "HashHallModel$Pairs" "before" "[I") ∈ lw_all := lw_g (lw_at lw_m5 149 rfl) rfl
theorem q1118 : (Jvm.Cond.fieldLink "HashHallModel$Pairs" (22 : Nat) "HashHallModel$Pairs" "behind" "[I") ∈ lw_all := lw_g (lw_at lw_m5 150 rfl) rfl
theorem q1120 : (Jvm.Cond.fieldLink "HashHallModel$Pairs" (35 : Nat) "HashHallModel$Pairs" "many" "I") ∈ lw_all := lw_g (lw_at lw_m5 152 rfl) rfl
theorem q1122 : (Jvm.Cond.fieldLink "HashHallModel$Pairs" (25 : Nat) "HashHallModel$Pairs" "free" "I") ∈ lw_all := lw_g (lw_at lw_m5 154 rfl) rfl
theorem q1123 : (Jvm.Cond.fieldLink "HashHallModel$Pairs" (42 : Nat) "HashHallModel$Pairs" "made" "I") ∈ lw_all := lw_g (lw_at lw_m5 155 rfl) rfl
theorem q1124 : (Jvm.Cond.fieldLink "HashHallModel$Pairs" (29 : Nat) "HashHallModel$Pairs" "first" "I") ∈ lw_all := lw_g (lw_at lw_m5 156 rfl) rfl
theorem q1126 : (Jvm.Cond.fieldLink "HashHallModel$Pairs" (32 : Nat) "HashHallModel$Pairs" "last" "I") ∈ lw_all := lw_g (lw_at lw_m5 158 rfl) rfl
theorem q1127 : (Jvm.Cond.lays "HashHallModel$Pairs" "HashHallModel$Pairs" "sorted" "[I") ∈ lw_all := lw_g (lw_at lw_m5 159 rfl) rfl
theorem q1128 : (Jvm.Cond.soleField "HashHallModel$Pairs" "sorted") ∈ lw_all := lw_g (lw_at lw_m5 160 rfl) rfl
theorem q1129 : (Jvm.Cond.lays "HashHallModel$Pairs" "HashHallModel$Pairs" "key" "[I") ∈ lw_all := lw_g (lw_at lw_m5 161 rfl) rfl
theorem q1130 : (Jvm.Cond.soleField "HashHallModel$Pairs" "key") ∈ lw_all := lw_g (lw_at lw_m5 162 rfl) rfl
theorem q1131 : (Jvm.Cond.lays "HashHallModel$Pairs" "HashHallModel$Pairs" "value" "[I") ∈ lw_all := lw_g (lw_at lw_m5 163 rfl) rfl
theorem q1132 : (Jvm.Cond.soleField "HashHallModel$Pairs" "value") ∈ lw_all := lw_g (lw_at lw_m5 164 rfl) rfl
theorem q1133 : (Jvm.Cond.lays "HashHallModel$Pairs" "HashHallModel$Pairs" "before" "[I") ∈ lw_all := lw_g (lw_at lw_m5 165 rfl) rfl
theorem q1134 : (Jvm.Cond.soleField "HashHallModel$Pairs" "before") ∈ lw_all := lw_g (lw_at lw_m5 166 rfl) rfl
theorem q1135 : (Jvm.Cond.lays "HashHallModel$Pairs" "HashHallModel$Pairs" "behind" "[I") ∈ lw_all := lw_g (lw_at lw_m5 167 rfl) rfl
theorem q1136 : (Jvm.Cond.soleField "HashHallModel$Pairs" "behind") ∈ lw_all := lw_g (lw_at lw_m5 168 rfl) rfl
theorem q1137 : (Jvm.Cond.lays "HashHallModel$Pairs" "HashHallModel$Pairs" "many" "I") ∈ lw_all := lw_g (lw_at lw_m5 169 rfl) rfl
theorem q1138 : (Jvm.Cond.soleField "HashHallModel$Pairs" "many") ∈ lw_all := lw_g (lw_at lw_m5 170 rfl) rfl
theorem q1139 : (Jvm.Cond.lays "HashHallModel$Pairs" "HashHallModel$Pairs" "free" "I") ∈ lw_all := lw_g (lw_at lw_m5 171 rfl) rfl
theorem q1140 : (Jvm.Cond.soleField "HashHallModel$Pairs" "free") ∈ lw_all := lw_g (lw_at lw_m5 172 rfl) rfl
theorem q1141 : (Jvm.Cond.lays "HashHallModel$Pairs" "HashHallModel$Pairs" "made" "I") ∈ lw_all := lw_g (lw_at lw_m5 173 rfl) rfl
theorem q1142 : (Jvm.Cond.soleField "HashHallModel$Pairs" "made") ∈ lw_all := lw_g (lw_at lw_m5 174 rfl) rfl
theorem q1143 : (Jvm.Cond.lays "HashHallModel$Pairs" "HashHallModel$Pairs" "first" "I") ∈ lw_all := lw_g (lw_at lw_m5 175 rfl) rfl
theorem q1144 : (Jvm.Cond.soleField "HashHallModel$Pairs" "first") ∈ lw_all := lw_g (lw_at lw_m5 176 rfl) rfl
theorem q1145 : (Jvm.Cond.lays "HashHallModel$Pairs" "HashHallModel$Pairs" "last" "I") ∈ lw_all := lw_g (lw_at lw_m5 177 rfl) rfl
theorem q1146 : (Jvm.Cond.soleField "HashHallModel$Pairs" "last") ∈ lw_all := lw_g (lw_at lw_m5 178 rfl) rfl
theorem q1147 : (Jvm.Cond.superclass "HashHallModel$Pairs" "java/lang/Object") ∈ lw_all := lw_g (lw_at lw_m5 179 rfl) rfl
theorem q1162 : (Jvm.Cond.instanceMethod ({ cls := "HashHallModel$Pairs", name := "find", desc := "(I)I" } : Jvm.MethodName)) ∈ lw_all := lw_g (lw_at lw_m5 194 rfl) rfl
theorem q1163 : (Jvm.Cond.selects "HashHallModel$Pairs" ({ cls := "HashHallModel$Pairs", name := "find", desc := "(I)I" } : Jvm.MethodName) ({ cls := "HashHallModel$Pairs", name := "find", desc := "(I)I" } : Jvm.MethodName)) ∈ lw_all := lw_g (lw_at lw_m5 195 rfl) rfl
theorem q1164 : (Jvm.Cond.code ({ cls := "HashHallModel$Pairs", name := "find", desc := "(I)I" } : Jvm.MethodName) prog_4_method_3_code (3 : Nat) (Option.some Jvm.ClassFile.FieldType.int)) ∈ lw_all := lw_g (lw_at lw_m5 196 rfl) rfl
theorem q1165 : (Jvm.Cond.methodLink "HashHallModel$Pairs" (38 : Nat) ({ cls := "HashHallModel$Pairs", name := "rankOf", desc := "(I)I" } : Jvm.MethodName)) ∈ lw_all := lw_g (lw_at lw_m5 197 rfl) rfl
theorem q1166 : (Jvm.Cond.privateMethod ({ cls := "HashHallModel$Pairs", name := "rankOf", desc := "(I)I" } : Jvm.MethodName)) ∈ lw_tbl := lw_at lw_m5 198 rfl
theorem q1167 : (Jvm.Cond.instanceMethod ({ cls := "HashHallModel$Pairs", name := "rankOf", desc := "(I)I" } : Jvm.MethodName)) ∈ lw_all := lw_g (lw_at lw_m5 199 rfl) rfl
theorem q1168 : (Jvm.Cond.code ({ cls := "HashHallModel$Pairs", name := "rankOf", desc := "(I)I" } : Jvm.MethodName) prog_4_method_2_code (5 : Nat) (Option.some Jvm.ClassFile.FieldType.int)) ∈ lw_all := lw_g (lw_at lw_m5 200 rfl) rfl
theorem q1170 : (Jvm.Cond.instanceMethod ({ cls := "HashHallModel$Pairs", name := "insert", desc := "(II)V" } : Jvm.MethodName)) ∈ lw_all := lw_g (lw_at lw_m5 202 rfl) rfl
theorem q1171 : (Jvm.Cond.selects "HashHallModel$Pairs" ({ cls := "HashHallModel$Pairs", name := "insert", desc := "(II)V" } : Jvm.MethodName) ({ cls := "HashHallModel$Pairs", name := "insert", desc := "(II)V" } : Jvm.MethodName)) ∈ lw_all := lw_g (lw_at lw_m5 203 rfl) rfl
theorem q1172 : (Jvm.Cond.code ({ cls := "HashHallModel$Pairs", name := "insert", desc := "(II)V" } : Jvm.MethodName) prog_4_method_5_code (5 : Nat) (Option.none : Option Jvm.ClassFile.FieldType)) ∈ lw_all := lw_g (lw_at lw_m5 204 rfl) rfl
theorem q1173 : (Jvm.Cond.methodLink "HashHallModel$Pairs" (51 : Nat) ({ cls := "HashHallModel$Pairs", name := "grow", desc := "()V" } : Jvm.MethodName)) ∈ lw_all := lw_g (lw_at lw_m5 205 rfl) rfl
theorem q1174 : (Jvm.Cond.privateMethod ({ cls := "HashHallModel$Pairs", name := "grow", desc := "()V" } : Jvm.MethodName)) ∈ lw_tbl := lw_at lw_m5 206 rfl
theorem q1175 : (Jvm.Cond.instanceMethod ({ cls := "HashHallModel$Pairs", name := "grow", desc := "()V" } : Jvm.MethodName)) ∈ lw_all := lw_g (lw_at lw_m5 207 rfl) rfl
theorem q1176 : (Jvm.Cond.code ({ cls := "HashHallModel$Pairs", name := "grow", desc := "()V" } : Jvm.MethodName) prog_4_method_4_code (2 : Nat) (Option.none : Option Jvm.ClassFile.FieldType)) ∈ lw_all := lw_g (lw_at lw_m5 208 rfl) rfl
theorem q1177 : (Jvm.Cond.methodLink "HashHallModel$Pairs" (45 : Nat) ({ cls := "java/util/Arrays", name := "copyOf", desc := "([II)[I" } : Jvm.MethodName)) ∈ lw_all := lw_g (lw_at lw_m5 209 rfl) rfl
theorem q1193 : (Jvm.Cond.methodLink "HashHallModel$Pairs" (54 : Nat) ({ cls := "java/lang/System", name := "arraycopy", desc := "(Ljava/lang/Object;ILjava/lang/Object;II)V" } : Jvm.MethodName)) ∈ lw_all := lw_g (lw_at lw_m5 225 rfl) rfl
theorem q1194 : (Jvm.Cond.methodLink "HashHallModel$Pairs" (60 : Nat) ({ cls := "HashHallModel$Pairs", name := "link", desc := "(I)V" } : Jvm.MethodName)) ∈ lw_all := lw_g (lw_at lw_m5 226 rfl) rfl
theorem q1195 : (Jvm.Cond.privateMethod ({ cls := "HashHallModel$Pairs", name := "link", desc := "(I)V" } : Jvm.MethodName)) ∈ lw_tbl := lw_at lw_m5 227 rfl
theorem q1196 : (Jvm.Cond.instanceMethod ({ cls := "HashHallModel$Pairs", name := "link", desc := "(I)V" } : Jvm.MethodName)) ∈ lw_all := lw_g (lw_at lw_m5 228 rfl) rfl
theorem q1197 : (Jvm.Cond.code ({ cls := "HashHallModel$Pairs", name := "link", desc := "(I)V" } : Jvm.MethodName) prog_4_method_6_code (2 : Nat) (Option.none : Option Jvm.ClassFile.FieldType)) ∈ lw_all := lw_g (lw_at lw_m5 229 rfl) rfl
theorem q1204 : (Jvm.Cond.instanceMethod ({ cls := "HashHallModel$Pairs", name := "toLast", desc := "(I)V" } : Jvm.MethodName)) ∈ lw_all := lw_g (lw_at lw_m5 236 rfl) rfl
theorem q1205 : (Jvm.Cond.selects "HashHallModel$Pairs" ({ cls := "HashHallModel$Pairs", name := "toLast", desc := "(I)V" } : Jvm.MethodName) ({ cls := "HashHallModel$Pairs", name := "toLast", desc := "(I)V" } : Jvm.MethodName)) ∈ lw_all := lw_g (lw_at lw_m5 237 rfl) rfl
theorem q1206 : (Jvm.Cond.code ({ cls := "HashHallModel$Pairs", name := "toLast", desc := "(I)V" } : Jvm.MethodName) prog_4_method_8_code (2 : Nat) (Option.none : Option Jvm.ClassFile.FieldType)) ∈ lw_all := lw_g (lw_at lw_m5 238 rfl) rfl
theorem q1207 : (Jvm.Cond.methodLink "HashHallModel$Pairs" (64 : Nat) ({ cls := "HashHallModel$Pairs", name := "unlink", desc := "(I)V" } : Jvm.MethodName)) ∈ lw_all := lw_g (lw_at lw_m5 239 rfl) rfl
theorem q1208 : (Jvm.Cond.privateMethod ({ cls := "HashHallModel$Pairs", name := "unlink", desc := "(I)V" } : Jvm.MethodName)) ∈ lw_tbl := lw_at lw_m6 0 rfl
theorem q1209 : (Jvm.Cond.instanceMethod ({ cls := "HashHallModel$Pairs", name := "unlink", desc := "(I)V" } : Jvm.MethodName)) ∈ lw_all := lw_g (lw_at lw_m6 1 rfl) rfl
theorem q1210 : (Jvm.Cond.code ({ cls := "HashHallModel$Pairs", name := "unlink", desc := "(I)V" } : Jvm.MethodName) prog_4_method_7_code (2 : Nat) (Option.none : Option Jvm.ClassFile.FieldType)) ∈ lw_all := lw_g (lw_at lw_m6 2 rfl) rfl
theorem q1229 : (Jvm.Cond.instanceMethod ({ cls := "HashHallModel$Pairs", name := "delete", desc := "(I)V" } : Jvm.MethodName)) ∈ lw_all := lw_g (lw_at lw_m6 21 rfl) rfl
theorem q1230 : (Jvm.Cond.selects "HashHallModel$Pairs" ({ cls := "HashHallModel$Pairs", name := "delete", desc := "(I)V" } : Jvm.MethodName) ({ cls := "HashHallModel$Pairs", name := "delete", desc := "(I)V" } : Jvm.MethodName)) ∈ lw_all := lw_g (lw_at lw_m6 22 rfl) rfl
theorem q1231 : (Jvm.Cond.code ({ cls := "HashHallModel$Pairs", name := "delete", desc := "(I)V" } : Jvm.MethodName) prog_4_method_9_code (3 : Nat) (Option.none : Option Jvm.ClassFile.FieldType)) ∈ lw_all := lw_g (lw_at lw_m6 23 rfl) rfl
theorem q1249 : (Jvm.Cond.instanceMethod ({ cls := "HashHallModel$Pairs", name := "clear", desc := "()V" } : Jvm.MethodName)) ∈ lw_all := lw_g (lw_at lw_m6 41 rfl) rfl
theorem q1250 : (Jvm.Cond.selects "HashHallModel$Pairs" ({ cls := "HashHallModel$Pairs", name := "clear", desc := "()V" } : Jvm.MethodName) ({ cls := "HashHallModel$Pairs", name := "clear", desc := "()V" } : Jvm.MethodName)) ∈ lw_all := lw_g (lw_at lw_m6 42 rfl) rfl
theorem q1251 : (Jvm.Cond.code ({ cls := "HashHallModel$Pairs", name := "clear", desc := "()V" } : Jvm.MethodName) prog_4_method_10_code (1 : Nat) (Option.none : Option Jvm.ClassFile.FieldType)) ∈ lw_all := lw_g (lw_at lw_m6 43 rfl) rfl
theorem q1299 : (Jvm.Cond.castable "HashHallModel$Pairs" "java/lang/Object") ∈ lw_tbl := lw_at lw_m6 91 rfl
theorem in_X2 : ∀ w ∈ wsX20, w ∈ lw_all := lw_in wsX20 [1127, 1129, 1131, 1133, 1135, 1137, 1139, 1141, 1143, 1145] (by decide +kernel) (by decide +kernel)
