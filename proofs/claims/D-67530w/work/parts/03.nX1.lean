set_option maxRecDepth 100000
def RX1 : String := "HashHallModel"
def TX1 : u_T := fun k => match k with
  | _ => ("HashHallModel", "map", "[LHashHallModel$Pairs;", true)
def tyX1 : Nat → FieldType := fun k => match k with
  | _ => .array (.object "HashHallModel$Pairs")
abbrev wsX10 : List Cond := u_ws RX1 TX1 1
theorem nmX1 : ∀ a, a < 1 → ∀ b, b < 1 → a ≠ b → (TX1 a).2.1 ≠ (TX1 b).2.1 := by decide +kernel
theorem tyX1_ok : ∀ k, k < 1 → parseFieldDescriptor (TX1 k).2.2.1 = some (tyX1 k) := by decide +kernel
abbrev cX1_init : ByteArray := prog_3_method_1_code
def yX1_init : MethodName := ⟨RX1, "<init>", "()V"⟩
theorem dX1_init_0 : decode cX1_init 0 = .ok (.aload_n 0, 1) := by decide +kernel
theorem dX1_init_1 : decode cX1_init 1 = .ok (.invokespecial 3, 3) := by decide +kernel
theorem dX1_init_4 : decode cX1_init 4 = .ok (.aload_n 0, 1) := by decide +kernel
theorem dX1_init_5 : decode cX1_init 5 = .ok (.iconst 3, 1) := by decide +kernel
theorem dX1_init_6 : decode cX1_init 6 = .ok (.anewarray 9, 3) := by decide +kernel
theorem dX1_init_9 : decode cX1_init 9 = .ok (.dup, 1) := by decide +kernel
theorem dX1_init_10 : decode cX1_init 10 = .ok (.iconst 0, 1) := by decide +kernel
theorem dX1_init_11 : decode cX1_init 11 = .ok (.new 9, 3) := by decide +kernel
theorem dX1_init_14 : decode cX1_init 14 = .ok (.dup, 1) := by decide +kernel
theorem dX1_init_15 : decode cX1_init 15 = .ok (.invokespecial 11, 3) := by decide +kernel
theorem dX1_init_18 : decode cX1_init 18 = .ok (.aastore, 1) := by decide +kernel
theorem dX1_init_19 : decode cX1_init 19 = .ok (.dup, 1) := by decide +kernel
theorem dX1_init_20 : decode cX1_init 20 = .ok (.iconst 1, 1) := by decide +kernel
theorem dX1_init_21 : decode cX1_init 21 = .ok (.new 9, 3) := by decide +kernel
theorem dX1_init_24 : decode cX1_init 24 = .ok (.dup, 1) := by decide +kernel
theorem dX1_init_25 : decode cX1_init 25 = .ok (.invokespecial 11, 3) := by decide +kernel
theorem dX1_init_28 : decode cX1_init 28 = .ok (.aastore, 1) := by decide +kernel
theorem dX1_init_29 : decode cX1_init 29 = .ok (.dup, 1) := by decide +kernel
theorem dX1_init_30 : decode cX1_init 30 = .ok (.iconst 2, 1) := by decide +kernel
theorem dX1_init_31 : decode cX1_init 31 = .ok (.new 9, 3) := by decide +kernel
theorem dX1_init_34 : decode cX1_init 34 = .ok (.dup, 1) := by decide +kernel
theorem dX1_init_35 : decode cX1_init 35 = .ok (.invokespecial 11, 3) := by decide +kernel
theorem dX1_init_38 : decode cX1_init 38 = .ok (.aastore, 1) := by decide +kernel
theorem dX1_init_39 : decode cX1_init 39 = .ok (.putfield 12, 3) := by decide +kernel
theorem dX1_init_42 : decode cX1_init 42 = .ok (.return_, 1) := by decide +kernel
abbrev cX1_put : ByteArray := prog_3_method_4_code
def yX1_put : MethodName := ⟨RX1, "put", "(III)J"⟩
theorem dX1_put_0 : decode cX1_put 0 = .ok (.iload_n 1, 1) := by decide +kernel
theorem dX1_put_1 : decode cX1_put 1 = .ok (.invokestatic 20, 3) := by decide +kernel
theorem dX1_put_4 : decode cX1_put 4 = .ok (.ifCond .ne 7, 3) := by decide +kernel
theorem dX1_put_7 : decode cX1_put 7 = .ok (.ldc2_w 24, 3) := by decide +kernel
theorem dX1_put_10 : decode cX1_put 10 = .ok (.lreturn, 1) := by decide +kernel
theorem dX1_put_11 : decode cX1_put 11 = .ok (.aload_n 0, 1) := by decide +kernel
theorem dX1_put_12 : decode cX1_put 12 = .ok (.getfield 12, 3) := by decide +kernel
theorem dX1_put_15 : decode cX1_put 15 = .ok (.iload_n 1, 1) := by decide +kernel
theorem dX1_put_16 : decode cX1_put 16 = .ok (.aaload, 1) := by decide +kernel
theorem dX1_put_17 : decode cX1_put 17 = .ok (.iload_n 2, 1) := by decide +kernel
theorem dX1_put_18 : decode cX1_put 18 = .ok (.invokevirtual 26, 3) := by decide +kernel
theorem dX1_put_21 : decode cX1_put 21 = .ok (.istore 4, 2) := by decide +kernel
theorem dX1_put_23 : decode cX1_put 23 = .ok (.iload 4, 2) := by decide +kernel
theorem dX1_put_25 : decode cX1_put 25 = .ok (.ifCond .ge 18, 3) := by decide +kernel
theorem dX1_put_28 : decode cX1_put 28 = .ok (.aload_n 0, 1) := by decide +kernel
theorem dX1_put_29 : decode cX1_put 29 = .ok (.getfield 12, 3) := by decide +kernel
theorem dX1_put_32 : decode cX1_put 32 = .ok (.iload_n 1, 1) := by decide +kernel
theorem dX1_put_33 : decode cX1_put 33 = .ok (.aaload, 1) := by decide +kernel
theorem dX1_put_34 : decode cX1_put 34 = .ok (.iload_n 2, 1) := by decide +kernel
theorem dX1_put_35 : decode cX1_put 35 = .ok (.iload_n 3, 1) := by decide +kernel
theorem dX1_put_36 : decode cX1_put 36 = .ok (.invokevirtual 30, 3) := by decide +kernel
theorem dX1_put_39 : decode cX1_put 39 = .ok (.ldc2_w 34, 3) := by decide +kernel
theorem dX1_put_42 : decode cX1_put 42 = .ok (.lreturn, 1) := by decide +kernel
theorem dX1_put_43 : decode cX1_put 43 = .ok (.aload_n 0, 1) := by decide +kernel
theorem dX1_put_44 : decode cX1_put 44 = .ok (.getfield 12, 3) := by decide +kernel
theorem dX1_put_47 : decode cX1_put 47 = .ok (.iload_n 1, 1) := by decide +kernel
theorem dX1_put_48 : decode cX1_put 48 = .ok (.aaload, 1) := by decide +kernel
theorem dX1_put_49 : decode cX1_put 49 = .ok (.getfield 36, 3) := by decide +kernel
theorem dX1_put_52 : decode cX1_put 52 = .ok (.iload 4, 2) := by decide +kernel
theorem dX1_put_54 : decode cX1_put 54 = .ok (.iaload, 1) := by decide +kernel
theorem dX1_put_55 : decode cX1_put 55 = .ok (.istore 5, 2) := by decide +kernel
theorem dX1_put_57 : decode cX1_put 57 = .ok (.aload_n 0, 1) := by decide +kernel
theorem dX1_put_58 : decode cX1_put 58 = .ok (.getfield 12, 3) := by decide +kernel
theorem dX1_put_61 : decode cX1_put 61 = .ok (.iload_n 1, 1) := by decide +kernel
theorem dX1_put_62 : decode cX1_put 62 = .ok (.aaload, 1) := by decide +kernel
theorem dX1_put_63 : decode cX1_put 63 = .ok (.getfield 36, 3) := by decide +kernel
theorem dX1_put_66 : decode cX1_put 66 = .ok (.iload 4, 2) := by decide +kernel
theorem dX1_put_68 : decode cX1_put 68 = .ok (.iload_n 3, 1) := by decide +kernel
theorem dX1_put_69 : decode cX1_put 69 = .ok (.iastore, 1) := by decide +kernel
theorem dX1_put_70 : decode cX1_put 70 = .ok (.aload_n 0, 1) := by decide +kernel
theorem dX1_put_71 : decode cX1_put 71 = .ok (.iload_n 1, 1) := by decide +kernel
theorem dX1_put_72 : decode cX1_put 72 = .ok (.iload 4, 2) := by decide +kernel
theorem dX1_put_74 : decode cX1_put 74 = .ok (.invokevirtual 40, 3) := by decide +kernel
theorem dX1_put_77 : decode cX1_put 77 = .ok (.iload 5, 2) := by decide +kernel
theorem dX1_put_79 : decode cX1_put 79 = .ok (.i2l, 1) := by decide +kernel
theorem dX1_put_80 : decode cX1_put 80 = .ok (.lreturn, 1) := by decide +kernel
abbrev cX1_isMap : ByteArray := prog_3_method_2_code
def yX1_isMap : MethodName := ⟨RX1, "isMap", "(I)Z"⟩
theorem dX1_isMap_0 : decode cX1_isMap 0 = .ok (.iload_n 0, 1) := by decide +kernel
theorem dX1_isMap_1 : decode cX1_isMap 1 = .ok (.ifCond .lt 12, 3) := by decide +kernel
theorem dX1_isMap_4 : decode cX1_isMap 4 = .ok (.iload_n 0, 1) := by decide +kernel
theorem dX1_isMap_5 : decode cX1_isMap 5 = .ok (.iconst 2, 1) := by decide +kernel
theorem dX1_isMap_6 : decode cX1_isMap 6 = .ok (.if_icmp .gt 7, 3) := by decide +kernel
theorem dX1_isMap_9 : decode cX1_isMap 9 = .ok (.iconst 1, 1) := by decide +kernel
theorem dX1_isMap_10 : decode cX1_isMap 10 = .ok (.goto 4, 3) := by decide +kernel
theorem dX1_isMap_13 : decode cX1_isMap 13 = .ok (.iconst 0, 1) := by decide +kernel
theorem dX1_isMap_14 : decode cX1_isMap 14 = .ok (.ireturn, 1) := by decide +kernel
abbrev cX1_use : ByteArray := prog_3_method_3_code
def yX1_use : MethodName := ⟨RX1, "use", "(II)V"⟩
theorem dX1_use_0 : decode cX1_use 0 = .ok (.iload_n 1, 1) := by decide +kernel
theorem dX1_use_1 : decode cX1_use 1 = .ok (.iconst 2, 1) := by decide +kernel
theorem dX1_use_2 : decode cX1_use 2 = .ok (.if_icmp .ne 13, 3) := by decide +kernel
theorem dX1_use_5 : decode cX1_use 5 = .ok (.aload_n 0, 1) := by decide +kernel
theorem dX1_use_6 : decode cX1_use 6 = .ok (.getfield 12, 3) := by decide +kernel
theorem dX1_use_9 : decode cX1_use 9 = .ok (.iconst 2, 1) := by decide +kernel
theorem dX1_use_10 : decode cX1_use 10 = .ok (.aaload, 1) := by decide +kernel
theorem dX1_use_11 : decode cX1_use 11 = .ok (.iload_n 2, 1) := by decide +kernel
theorem dX1_use_12 : decode cX1_use 12 = .ok (.invokevirtual 16, 3) := by decide +kernel
theorem dX1_use_15 : decode cX1_use 15 = .ok (.return_, 1) := by decide +kernel
abbrev cX1_add : ByteArray := prog_3_method_5_code
def yX1_add : MethodName := ⟨RX1, "add", "(III)J"⟩
theorem dX1_add_0 : decode cX1_add 0 = .ok (.iload_n 1, 1) := by decide +kernel
theorem dX1_add_1 : decode cX1_add 1 = .ok (.invokestatic 20, 3) := by decide +kernel
theorem dX1_add_4 : decode cX1_add 4 = .ok (.ifCond .ne 7, 3) := by decide +kernel
theorem dX1_add_7 : decode cX1_add 7 = .ok (.ldc2_w 24, 3) := by decide +kernel
theorem dX1_add_10 : decode cX1_add 10 = .ok (.lreturn, 1) := by decide +kernel
theorem dX1_add_11 : decode cX1_add 11 = .ok (.aload_n 0, 1) := by decide +kernel
theorem dX1_add_12 : decode cX1_add 12 = .ok (.getfield 12, 3) := by decide +kernel
theorem dX1_add_15 : decode cX1_add 15 = .ok (.iload_n 1, 1) := by decide +kernel
theorem dX1_add_16 : decode cX1_add 16 = .ok (.aaload, 1) := by decide +kernel
theorem dX1_add_17 : decode cX1_add 17 = .ok (.iload_n 2, 1) := by decide +kernel
theorem dX1_add_18 : decode cX1_add 18 = .ok (.invokevirtual 26, 3) := by decide +kernel
theorem dX1_add_21 : decode cX1_add 21 = .ok (.istore 4, 2) := by decide +kernel
theorem dX1_add_23 : decode cX1_add 23 = .ok (.iload 4, 2) := by decide +kernel
theorem dX1_add_25 : decode cX1_add 25 = .ok (.ifCond .ge 18, 3) := by decide +kernel
theorem dX1_add_28 : decode cX1_add 28 = .ok (.aload_n 0, 1) := by decide +kernel
theorem dX1_add_29 : decode cX1_add 29 = .ok (.getfield 12, 3) := by decide +kernel
theorem dX1_add_32 : decode cX1_add 32 = .ok (.iload_n 1, 1) := by decide +kernel
theorem dX1_add_33 : decode cX1_add 33 = .ok (.aaload, 1) := by decide +kernel
theorem dX1_add_34 : decode cX1_add 34 = .ok (.iload_n 2, 1) := by decide +kernel
theorem dX1_add_35 : decode cX1_add 35 = .ok (.iload_n 3, 1) := by decide +kernel
theorem dX1_add_36 : decode cX1_add 36 = .ok (.invokevirtual 30, 3) := by decide +kernel
theorem dX1_add_39 : decode cX1_add 39 = .ok (.ldc2_w 34, 3) := by decide +kernel
theorem dX1_add_42 : decode cX1_add 42 = .ok (.lreturn, 1) := by decide +kernel
theorem dX1_add_43 : decode cX1_add 43 = .ok (.aload_n 0, 1) := by decide +kernel
theorem dX1_add_44 : decode cX1_add 44 = .ok (.iload_n 1, 1) := by decide +kernel
theorem dX1_add_45 : decode cX1_add 45 = .ok (.iload 4, 2) := by decide +kernel
theorem dX1_add_47 : decode cX1_add 47 = .ok (.invokevirtual 40, 3) := by decide +kernel
theorem dX1_add_50 : decode cX1_add 50 = .ok (.aload_n 0, 1) := by decide +kernel
theorem dX1_add_51 : decode cX1_add 51 = .ok (.getfield 12, 3) := by decide +kernel
theorem dX1_add_54 : decode cX1_add 54 = .ok (.iload_n 1, 1) := by decide +kernel
theorem dX1_add_55 : decode cX1_add 55 = .ok (.aaload, 1) := by decide +kernel
theorem dX1_add_56 : decode cX1_add 56 = .ok (.getfield 36, 3) := by decide +kernel
theorem dX1_add_59 : decode cX1_add 59 = .ok (.iload 4, 2) := by decide +kernel
theorem dX1_add_61 : decode cX1_add 61 = .ok (.iaload, 1) := by decide +kernel
theorem dX1_add_62 : decode cX1_add 62 = .ok (.i2l, 1) := by decide +kernel
theorem dX1_add_63 : decode cX1_add 63 = .ok (.lreturn, 1) := by decide +kernel
abbrev cX1_get : ByteArray := prog_3_method_6_code
def yX1_get : MethodName := ⟨RX1, "get", "(II)J"⟩
theorem dX1_get_0 : decode cX1_get 0 = .ok (.iload_n 1, 1) := by decide +kernel
theorem dX1_get_1 : decode cX1_get 1 = .ok (.invokestatic 20, 3) := by decide +kernel
theorem dX1_get_4 : decode cX1_get 4 = .ok (.ifCond .ne 7, 3) := by decide +kernel
theorem dX1_get_7 : decode cX1_get 7 = .ok (.ldc2_w 24, 3) := by decide +kernel
theorem dX1_get_10 : decode cX1_get 10 = .ok (.lreturn, 1) := by decide +kernel
theorem dX1_get_11 : decode cX1_get 11 = .ok (.aload_n 0, 1) := by decide +kernel
theorem dX1_get_12 : decode cX1_get 12 = .ok (.getfield 12, 3) := by decide +kernel
theorem dX1_get_15 : decode cX1_get 15 = .ok (.iload_n 1, 1) := by decide +kernel
theorem dX1_get_16 : decode cX1_get 16 = .ok (.aaload, 1) := by decide +kernel
theorem dX1_get_17 : decode cX1_get 17 = .ok (.iload_n 2, 1) := by decide +kernel
theorem dX1_get_18 : decode cX1_get 18 = .ok (.invokevirtual 26, 3) := by decide +kernel
theorem dX1_get_21 : decode cX1_get 21 = .ok (.istore_n 3, 1) := by decide +kernel
theorem dX1_get_22 : decode cX1_get 22 = .ok (.iload_n 3, 1) := by decide +kernel
theorem dX1_get_23 : decode cX1_get 23 = .ok (.ifCond .ge 7, 3) := by decide +kernel
theorem dX1_get_26 : decode cX1_get 26 = .ok (.ldc2_w 34, 3) := by decide +kernel
theorem dX1_get_29 : decode cX1_get 29 = .ok (.lreturn, 1) := by decide +kernel
theorem dX1_get_30 : decode cX1_get 30 = .ok (.aload_n 0, 1) := by decide +kernel
theorem dX1_get_31 : decode cX1_get 31 = .ok (.iload_n 1, 1) := by decide +kernel
theorem dX1_get_32 : decode cX1_get 32 = .ok (.iload_n 3, 1) := by decide +kernel
theorem dX1_get_33 : decode cX1_get 33 = .ok (.invokevirtual 40, 3) := by decide +kernel
theorem dX1_get_36 : decode cX1_get 36 = .ok (.aload_n 0, 1) := by decide +kernel
theorem dX1_get_37 : decode cX1_get 37 = .ok (.getfield 12, 3) := by decide +kernel
theorem dX1_get_40 : decode cX1_get 40 = .ok (.iload_n 1, 1) := by decide +kernel
theorem dX1_get_41 : decode cX1_get 41 = .ok (.aaload, 1) := by decide +kernel
theorem dX1_get_42 : decode cX1_get 42 = .ok (.getfield 36, 3) := by decide +kernel
theorem dX1_get_45 : decode cX1_get 45 = .ok (.iload_n 3, 1) := by decide +kernel
theorem dX1_get_46 : decode cX1_get 46 = .ok (.iaload, 1) := by decide +kernel
theorem dX1_get_47 : decode cX1_get 47 = .ok (.i2l, 1) := by decide +kernel
theorem dX1_get_48 : decode cX1_get 48 = .ok (.lreturn, 1) := by decide +kernel
abbrev cX1_give : ByteArray := prog_3_method_7_code
def yX1_give : MethodName := ⟨RX1, "give", "(III)J"⟩
theorem dX1_give_0 : decode cX1_give 0 = .ok (.aload_n 0, 1) := by decide +kernel
theorem dX1_give_1 : decode cX1_give 1 = .ok (.iload_n 1, 1) := by decide +kernel
theorem dX1_give_2 : decode cX1_give 2 = .ok (.iload_n 2, 1) := by decide +kernel
theorem dX1_give_3 : decode cX1_give 3 = .ok (.invokevirtual 43, 3) := by decide +kernel
theorem dX1_give_6 : decode cX1_give 6 = .ok (.lstore 4, 2) := by decide +kernel
theorem dX1_give_8 : decode cX1_give 8 = .ok (.lload 4, 2) := by decide +kernel
theorem dX1_give_10 : decode cX1_give 10 = .ok (.ldc2_w 34, 3) := by decide +kernel
theorem dX1_give_13 : decode cX1_give 13 = .ok (.lcmp, 1) := by decide +kernel
theorem dX1_give_14 : decode cX1_give 14 = .ok (.ifCond .ne 8, 3) := by decide +kernel
theorem dX1_give_17 : decode cX1_give 17 = .ok (.iload_n 3, 1) := by decide +kernel
theorem dX1_give_18 : decode cX1_give 18 = .ok (.i2l, 1) := by decide +kernel
theorem dX1_give_19 : decode cX1_give 19 = .ok (.goto 5, 3) := by decide +kernel
theorem dX1_give_22 : decode cX1_give 22 = .ok (.lload 4, 2) := by decide +kernel
theorem dX1_give_24 : decode cX1_give 24 = .ok (.lreturn, 1) := by decide +kernel
abbrev cX1_remove : ByteArray := prog_3_method_8_code
def yX1_remove : MethodName := ⟨RX1, "remove", "(II)J"⟩
theorem dX1_remove_0 : decode cX1_remove 0 = .ok (.iload_n 1, 1) := by decide +kernel
theorem dX1_remove_1 : decode cX1_remove 1 = .ok (.invokestatic 20, 3) := by decide +kernel
theorem dX1_remove_4 : decode cX1_remove 4 = .ok (.ifCond .ne 7, 3) := by decide +kernel
theorem dX1_remove_7 : decode cX1_remove 7 = .ok (.ldc2_w 24, 3) := by decide +kernel
theorem dX1_remove_10 : decode cX1_remove 10 = .ok (.lreturn, 1) := by decide +kernel
theorem dX1_remove_11 : decode cX1_remove 11 = .ok (.aload_n 0, 1) := by decide +kernel
theorem dX1_remove_12 : decode cX1_remove 12 = .ok (.getfield 12, 3) := by decide +kernel
theorem dX1_remove_15 : decode cX1_remove 15 = .ok (.iload_n 1, 1) := by decide +kernel
theorem dX1_remove_16 : decode cX1_remove 16 = .ok (.aaload, 1) := by decide +kernel
theorem dX1_remove_17 : decode cX1_remove 17 = .ok (.iload_n 2, 1) := by decide +kernel
theorem dX1_remove_18 : decode cX1_remove 18 = .ok (.invokevirtual 26, 3) := by decide +kernel
theorem dX1_remove_21 : decode cX1_remove 21 = .ok (.istore_n 3, 1) := by decide +kernel
theorem dX1_remove_22 : decode cX1_remove 22 = .ok (.iload_n 3, 1) := by decide +kernel
theorem dX1_remove_23 : decode cX1_remove 23 = .ok (.ifCond .ge 7, 3) := by decide +kernel
theorem dX1_remove_26 : decode cX1_remove 26 = .ok (.ldc2_w 34, 3) := by decide +kernel
theorem dX1_remove_29 : decode cX1_remove 29 = .ok (.lreturn, 1) := by decide +kernel
theorem dX1_remove_30 : decode cX1_remove 30 = .ok (.aload_n 0, 1) := by decide +kernel
theorem dX1_remove_31 : decode cX1_remove 31 = .ok (.getfield 12, 3) := by decide +kernel
theorem dX1_remove_34 : decode cX1_remove 34 = .ok (.iload_n 1, 1) := by decide +kernel
theorem dX1_remove_35 : decode cX1_remove 35 = .ok (.aaload, 1) := by decide +kernel
theorem dX1_remove_36 : decode cX1_remove 36 = .ok (.getfield 36, 3) := by decide +kernel
theorem dX1_remove_39 : decode cX1_remove 39 = .ok (.iload_n 3, 1) := by decide +kernel
theorem dX1_remove_40 : decode cX1_remove 40 = .ok (.iaload, 1) := by decide +kernel
theorem dX1_remove_41 : decode cX1_remove 41 = .ok (.istore 4, 2) := by decide +kernel
theorem dX1_remove_43 : decode cX1_remove 43 = .ok (.aload_n 0, 1) := by decide +kernel
theorem dX1_remove_44 : decode cX1_remove 44 = .ok (.getfield 12, 3) := by decide +kernel
theorem dX1_remove_47 : decode cX1_remove 47 = .ok (.iload_n 1, 1) := by decide +kernel
theorem dX1_remove_48 : decode cX1_remove 48 = .ok (.aaload, 1) := by decide +kernel
theorem dX1_remove_49 : decode cX1_remove 49 = .ok (.iload_n 3, 1) := by decide +kernel
theorem dX1_remove_50 : decode cX1_remove 50 = .ok (.invokevirtual 47, 3) := by decide +kernel
theorem dX1_remove_53 : decode cX1_remove 53 = .ok (.iload 4, 2) := by decide +kernel
theorem dX1_remove_55 : decode cX1_remove 55 = .ok (.i2l, 1) := by decide +kernel
theorem dX1_remove_56 : decode cX1_remove 56 = .ok (.lreturn, 1) := by decide +kernel
abbrev cX1_take : ByteArray := prog_3_method_9_code
def yX1_take : MethodName := ⟨RX1, "take", "(III)Z"⟩
theorem dX1_take_0 : decode cX1_take 0 = .ok (.iload_n 1, 1) := by decide +kernel
theorem dX1_take_1 : decode cX1_take 1 = .ok (.invokestatic 20, 3) := by decide +kernel
theorem dX1_take_4 : decode cX1_take 4 = .ok (.ifCond .eq 16, 3) := by decide +kernel
theorem dX1_take_7 : decode cX1_take 7 = .ok (.aload_n 0, 1) := by decide +kernel
theorem dX1_take_8 : decode cX1_take 8 = .ok (.getfield 12, 3) := by decide +kernel
theorem dX1_take_11 : decode cX1_take 11 = .ok (.iload_n 1, 1) := by decide +kernel
theorem dX1_take_12 : decode cX1_take 12 = .ok (.aaload, 1) := by decide +kernel
theorem dX1_take_13 : decode cX1_take 13 = .ok (.iload_n 2, 1) := by decide +kernel
theorem dX1_take_14 : decode cX1_take 14 = .ok (.invokevirtual 26, 3) := by decide +kernel
theorem dX1_take_17 : decode cX1_take 17 = .ok (.goto 4, 3) := by decide +kernel
theorem dX1_take_20 : decode cX1_take 20 = .ok (.iconst (-1), 1) := by decide +kernel
theorem dX1_take_21 : decode cX1_take 21 = .ok (.istore 4, 2) := by decide +kernel
theorem dX1_take_23 : decode cX1_take 23 = .ok (.iload 4, 2) := by decide +kernel
theorem dX1_take_25 : decode cX1_take 25 = .ok (.ifCond .lt 19, 3) := by decide +kernel
theorem dX1_take_28 : decode cX1_take 28 = .ok (.aload_n 0, 1) := by decide +kernel
theorem dX1_take_29 : decode cX1_take 29 = .ok (.getfield 12, 3) := by decide +kernel
theorem dX1_take_32 : decode cX1_take 32 = .ok (.iload_n 1, 1) := by decide +kernel
theorem dX1_take_33 : decode cX1_take 33 = .ok (.aaload, 1) := by decide +kernel
theorem dX1_take_34 : decode cX1_take 34 = .ok (.getfield 36, 3) := by decide +kernel
theorem dX1_take_37 : decode cX1_take 37 = .ok (.iload 4, 2) := by decide +kernel
theorem dX1_take_39 : decode cX1_take 39 = .ok (.iaload, 1) := by decide +kernel
theorem dX1_take_40 : decode cX1_take 40 = .ok (.iload_n 3, 1) := by decide +kernel
theorem dX1_take_41 : decode cX1_take 41 = .ok (.if_icmp .eq 5, 3) := by decide +kernel
theorem dX1_take_44 : decode cX1_take 44 = .ok (.iconst 0, 1) := by decide +kernel
theorem dX1_take_45 : decode cX1_take 45 = .ok (.ireturn, 1) := by decide +kernel
theorem dX1_take_46 : decode cX1_take 46 = .ok (.aload_n 0, 1) := by decide +kernel
theorem dX1_take_47 : decode cX1_take 47 = .ok (.getfield 12, 3) := by decide +kernel
theorem dX1_take_50 : decode cX1_take 50 = .ok (.iload_n 1, 1) := by decide +kernel
theorem dX1_take_51 : decode cX1_take 51 = .ok (.aaload, 1) := by decide +kernel
theorem dX1_take_52 : decode cX1_take 52 = .ok (.iload 4, 2) := by decide +kernel
theorem dX1_take_54 : decode cX1_take 54 = .ok (.invokevirtual 47, 3) := by decide +kernel
theorem dX1_take_57 : decode cX1_take 57 = .ok (.iconst 1, 1) := by decide +kernel
theorem dX1_take_58 : decode cX1_take 58 = .ok (.ireturn, 1) := by decide +kernel
abbrev cX1_has : ByteArray := prog_3_method_10_code
def yX1_has : MethodName := ⟨RX1, "has", "(III)Z"⟩
theorem dX1_has_0 : decode cX1_has 0 = .ok (.iload_n 1, 1) := by decide +kernel
theorem dX1_has_1 : decode cX1_has 1 = .ok (.invokestatic 20, 3) := by decide +kernel
theorem dX1_has_4 : decode cX1_has 4 = .ok (.ifCond .eq 12, 3) := by decide +kernel
theorem dX1_has_7 : decode cX1_has 7 = .ok (.iload_n 2, 1) := by decide +kernel
theorem dX1_has_8 : decode cX1_has 8 = .ok (.ifCond .eq 10, 3) := by decide +kernel
theorem dX1_has_11 : decode cX1_has 11 = .ok (.iload_n 2, 1) := by decide +kernel
theorem dX1_has_12 : decode cX1_has 12 = .ok (.iconst 1, 1) := by decide +kernel
theorem dX1_has_13 : decode cX1_has 13 = .ok (.if_icmp .eq 5, 3) := by decide +kernel
theorem dX1_has_16 : decode cX1_has 16 = .ok (.iconst 0, 1) := by decide +kernel
theorem dX1_has_17 : decode cX1_has 17 = .ok (.ireturn, 1) := by decide +kernel
theorem dX1_has_18 : decode cX1_has 18 = .ok (.iload_n 2, 1) := by decide +kernel
theorem dX1_has_19 : decode cX1_has 19 = .ok (.ifCond .ne 22, 3) := by decide +kernel
theorem dX1_has_22 : decode cX1_has 22 = .ok (.aload_n 0, 1) := by decide +kernel
theorem dX1_has_23 : decode cX1_has 23 = .ok (.getfield 12, 3) := by decide +kernel
theorem dX1_has_26 : decode cX1_has 26 = .ok (.iload_n 1, 1) := by decide +kernel
theorem dX1_has_27 : decode cX1_has 27 = .ok (.aaload, 1) := by decide +kernel
theorem dX1_has_28 : decode cX1_has 28 = .ok (.iload_n 3, 1) := by decide +kernel
theorem dX1_has_29 : decode cX1_has 29 = .ok (.invokevirtual 26, 3) := by decide +kernel
theorem dX1_has_32 : decode cX1_has 32 = .ok (.ifCond .lt 7, 3) := by decide +kernel
theorem dX1_has_35 : decode cX1_has 35 = .ok (.iconst 1, 1) := by decide +kernel
theorem dX1_has_36 : decode cX1_has 36 = .ok (.goto 4, 3) := by decide +kernel
theorem dX1_has_39 : decode cX1_has 39 = .ok (.iconst 0, 1) := by decide +kernel
theorem dX1_has_40 : decode cX1_has 40 = .ok (.ireturn, 1) := by decide +kernel
theorem dX1_has_41 : decode cX1_has 41 = .ok (.iconst 0, 1) := by decide +kernel
theorem dX1_has_42 : decode cX1_has 42 = .ok (.istore 4, 2) := by decide +kernel
theorem dX1_has_44 : decode cX1_has 44 = .ok (.iload 4, 2) := by decide +kernel
theorem dX1_has_46 : decode cX1_has 46 = .ok (.aload_n 0, 1) := by decide +kernel
theorem dX1_has_47 : decode cX1_has 47 = .ok (.getfield 12, 3) := by decide +kernel
theorem dX1_has_50 : decode cX1_has 50 = .ok (.iload_n 1, 1) := by decide +kernel
theorem dX1_has_51 : decode cX1_has 51 = .ok (.aaload, 1) := by decide +kernel
theorem dX1_has_52 : decode cX1_has 52 = .ok (.getfield 50, 3) := by decide +kernel
theorem dX1_has_55 : decode cX1_has 55 = .ok (.if_icmp .ge 37, 3) := by decide +kernel
theorem dX1_has_58 : decode cX1_has 58 = .ok (.aload_n 0, 1) := by decide +kernel
theorem dX1_has_59 : decode cX1_has 59 = .ok (.getfield 12, 3) := by decide +kernel
theorem dX1_has_62 : decode cX1_has 62 = .ok (.iload_n 1, 1) := by decide +kernel
theorem dX1_has_63 : decode cX1_has 63 = .ok (.aaload, 1) := by decide +kernel
theorem dX1_has_64 : decode cX1_has 64 = .ok (.getfield 36, 3) := by decide +kernel
theorem dX1_has_67 : decode cX1_has 67 = .ok (.aload_n 0, 1) := by decide +kernel
theorem dX1_has_68 : decode cX1_has 68 = .ok (.getfield 12, 3) := by decide +kernel
theorem dX1_has_71 : decode cX1_has 71 = .ok (.iload_n 1, 1) := by decide +kernel
theorem dX1_has_72 : decode cX1_has 72 = .ok (.aaload, 1) := by decide +kernel
theorem dX1_has_73 : decode cX1_has 73 = .ok (.getfield 54, 3) := by decide +kernel
theorem dX1_has_76 : decode cX1_has 76 = .ok (.iload 4, 2) := by decide +kernel
theorem dX1_has_78 : decode cX1_has 78 = .ok (.iaload, 1) := by decide +kernel
theorem dX1_has_79 : decode cX1_has 79 = .ok (.iaload, 1) := by decide +kernel
theorem dX1_has_80 : decode cX1_has 80 = .ok (.iload_n 3, 1) := by decide +kernel
theorem dX1_has_81 : decode cX1_has 81 = .ok (.if_icmp .ne 5, 3) := by decide +kernel
theorem dX1_has_84 : decode cX1_has 84 = .ok (.iconst 1, 1) := by decide +kernel
theorem dX1_has_85 : decode cX1_has 85 = .ok (.ireturn, 1) := by decide +kernel
theorem dX1_has_86 : decode cX1_has 86 = .ok (.iinc 4 1, 3) := by decide +kernel
theorem dX1_has_89 : decode cX1_has 89 = .ok (.goto (-45), 3) := by decide +kernel
theorem dX1_has_92 : decode cX1_has 92 = .ok (.iconst 0, 1) := by decide +kernel
theorem dX1_has_93 : decode cX1_has 93 = .ok (.ireturn, 1) := by decide +kernel
abbrev cX1_size : ByteArray := prog_3_method_11_code
def yX1_size : MethodName := ⟨RX1, "size", "(I)I"⟩
theorem dX1_size_0 : decode cX1_size 0 = .ok (.iload_n 1, 1) := by decide +kernel
theorem dX1_size_1 : decode cX1_size 1 = .ok (.invokestatic 20, 3) := by decide +kernel
theorem dX1_size_4 : decode cX1_size 4 = .ok (.ifCond .eq 15, 3) := by decide +kernel
theorem dX1_size_7 : decode cX1_size 7 = .ok (.aload_n 0, 1) := by decide +kernel
theorem dX1_size_8 : decode cX1_size 8 = .ok (.getfield 12, 3) := by decide +kernel
theorem dX1_size_11 : decode cX1_size 11 = .ok (.iload_n 1, 1) := by decide +kernel
theorem dX1_size_12 : decode cX1_size 12 = .ok (.aaload, 1) := by decide +kernel
theorem dX1_size_13 : decode cX1_size 13 = .ok (.getfield 50, 3) := by decide +kernel
theorem dX1_size_16 : decode cX1_size 16 = .ok (.goto 4, 3) := by decide +kernel
theorem dX1_size_19 : decode cX1_size 19 = .ok (.iconst (-1), 1) := by decide +kernel
theorem dX1_size_20 : decode cX1_size 20 = .ok (.ireturn, 1) := by decide +kernel
abbrev cX1_clear : ByteArray := prog_3_method_12_code
def yX1_clear : MethodName := ⟨RX1, "clear", "(I)I"⟩
theorem dX1_clear_0 : decode cX1_clear 0 = .ok (.iload_n 1, 1) := by decide +kernel
theorem dX1_clear_1 : decode cX1_clear 1 = .ok (.invokestatic 20, 3) := by decide +kernel
theorem dX1_clear_4 : decode cX1_clear 4 = .ok (.ifCond .ne 5, 3) := by decide +kernel
theorem dX1_clear_7 : decode cX1_clear 7 = .ok (.iconst (-1), 1) := by decide +kernel
theorem dX1_clear_8 : decode cX1_clear 8 = .ok (.ireturn, 1) := by decide +kernel
theorem dX1_clear_9 : decode cX1_clear 9 = .ok (.aload_n 0, 1) := by decide +kernel
theorem dX1_clear_10 : decode cX1_clear 10 = .ok (.getfield 12, 3) := by decide +kernel
theorem dX1_clear_13 : decode cX1_clear 13 = .ok (.iload_n 1, 1) := by decide +kernel
theorem dX1_clear_14 : decode cX1_clear 14 = .ok (.aaload, 1) := by decide +kernel
theorem dX1_clear_15 : decode cX1_clear 15 = .ok (.getfield 50, 3) := by decide +kernel
theorem dX1_clear_18 : decode cX1_clear 18 = .ok (.istore_n 2, 1) := by decide +kernel
theorem dX1_clear_19 : decode cX1_clear 19 = .ok (.aload_n 0, 1) := by decide +kernel
theorem dX1_clear_20 : decode cX1_clear 20 = .ok (.getfield 12, 3) := by decide +kernel
theorem dX1_clear_23 : decode cX1_clear 23 = .ok (.iload_n 1, 1) := by decide +kernel
theorem dX1_clear_24 : decode cX1_clear 24 = .ok (.aaload, 1) := by decide +kernel
theorem dX1_clear_25 : decode cX1_clear 25 = .ok (.invokevirtual 57, 3) := by decide +kernel
theorem dX1_clear_28 : decode cX1_clear 28 = .ok (.iload_n 2, 1) := by decide +kernel
theorem dX1_clear_29 : decode cX1_clear 29 = .ok (.ireturn, 1) := by decide +kernel
abbrev cX1_pour : ByteArray := prog_3_method_13_code
def yX1_pour : MethodName := ⟨RX1, "pour", "(II)I"⟩
theorem dX1_pour_0 : decode cX1_pour 0 = .ok (.iload_n 1, 1) := by decide +kernel
theorem dX1_pour_1 : decode cX1_pour 1 = .ok (.invokestatic 20, 3) := by decide +kernel
theorem dX1_pour_4 : decode cX1_pour 4 = .ok (.ifCond .eq 40, 3) := by decide +kernel
theorem dX1_pour_7 : decode cX1_pour 7 = .ok (.iload_n 2, 1) := by decide +kernel
theorem dX1_pour_8 : decode cX1_pour 8 = .ok (.invokestatic 20, 3) := by decide +kernel
theorem dX1_pour_11 : decode cX1_pour 11 = .ok (.ifCond .eq 33, 3) := by decide +kernel
theorem dX1_pour_14 : decode cX1_pour 14 = .ok (.iload_n 1, 1) := by decide +kernel
theorem dX1_pour_15 : decode cX1_pour 15 = .ok (.iload_n 2, 1) := by decide +kernel
theorem dX1_pour_16 : decode cX1_pour 16 = .ok (.if_icmp .eq 28, 3) := by decide +kernel
theorem dX1_pour_19 : decode cX1_pour 19 = .ok (.aload_n 0, 1) := by decide +kernel
theorem dX1_pour_20 : decode cX1_pour 20 = .ok (.getfield 12, 3) := by decide +kernel
theorem dX1_pour_23 : decode cX1_pour 23 = .ok (.iload_n 1, 1) := by decide +kernel
theorem dX1_pour_24 : decode cX1_pour 24 = .ok (.aaload, 1) := by decide +kernel
theorem dX1_pour_25 : decode cX1_pour 25 = .ok (.getfield 50, 3) := by decide +kernel
theorem dX1_pour_28 : decode cX1_pour 28 = .ok (.aload_n 0, 1) := by decide +kernel
theorem dX1_pour_29 : decode cX1_pour 29 = .ok (.getfield 12, 3) := by decide +kernel
theorem dX1_pour_32 : decode cX1_pour 32 = .ok (.iload_n 2, 1) := by decide +kernel
theorem dX1_pour_33 : decode cX1_pour 33 = .ok (.aaload, 1) := by decide +kernel
theorem dX1_pour_34 : decode cX1_pour 34 = .ok (.getfield 50, 3) := by decide +kernel
theorem dX1_pour_37 : decode cX1_pour 37 = .ok (.iadd, 1) := by decide +kernel
theorem dX1_pour_38 : decode cX1_pour 38 = .ok (.sipush 1400, 3) := by decide +kernel
theorem dX1_pour_41 : decode cX1_pour 41 = .ok (.if_icmp .le 5, 3) := by decide +kernel
theorem dX1_pour_44 : decode cX1_pour 44 = .ok (.iconst (-1), 1) := by decide +kernel
theorem dX1_pour_45 : decode cX1_pour 45 = .ok (.ireturn, 1) := by decide +kernel
theorem dX1_pour_46 : decode cX1_pour 46 = .ok (.iload_n 1, 1) := by decide +kernel
theorem dX1_pour_47 : decode cX1_pour 47 = .ok (.ifCond .ne 66, 3) := by decide +kernel
theorem dX1_pour_50 : decode cX1_pour 50 = .ok (.iload_n 2, 1) := by decide +kernel
theorem dX1_pour_51 : decode cX1_pour 51 = .ok (.iconst 1, 1) := by decide +kernel
theorem dX1_pour_52 : decode cX1_pour 52 = .ok (.if_icmp .eq 5, 3) := by decide +kernel
theorem dX1_pour_55 : decode cX1_pour 55 = .ok (.iconst (-1), 1) := by decide +kernel
theorem dX1_pour_56 : decode cX1_pour 56 = .ok (.ireturn, 1) := by decide +kernel
theorem dX1_pour_57 : decode cX1_pour 57 = .ok (.iconst 0, 1) := by decide +kernel
theorem dX1_pour_58 : decode cX1_pour 58 = .ok (.istore_n 3, 1) := by decide +kernel
theorem dX1_pour_59 : decode cX1_pour 59 = .ok (.iload_n 3, 1) := by decide +kernel
theorem dX1_pour_60 : decode cX1_pour 60 = .ok (.aload_n 0, 1) := by decide +kernel
theorem dX1_pour_61 : decode cX1_pour 61 = .ok (.getfield 12, 3) := by decide +kernel
theorem dX1_pour_64 : decode cX1_pour 64 = .ok (.iconst 0, 1) := by decide +kernel
theorem dX1_pour_65 : decode cX1_pour 65 = .ok (.aaload, 1) := by decide +kernel
theorem dX1_pour_66 : decode cX1_pour 66 = .ok (.getfield 50, 3) := by decide +kernel
theorem dX1_pour_69 : decode cX1_pour 69 = .ok (.if_icmp .ge 44, 3) := by decide +kernel
theorem dX1_pour_72 : decode cX1_pour 72 = .ok (.aload_n 0, 1) := by decide +kernel
theorem dX1_pour_73 : decode cX1_pour 73 = .ok (.getfield 12, 3) := by decide +kernel
theorem dX1_pour_76 : decode cX1_pour 76 = .ok (.iconst 1, 1) := by decide +kernel
theorem dX1_pour_77 : decode cX1_pour 77 = .ok (.aaload, 1) := by decide +kernel
theorem dX1_pour_78 : decode cX1_pour 78 = .ok (.aload_n 0, 1) := by decide +kernel
theorem dX1_pour_79 : decode cX1_pour 79 = .ok (.getfield 12, 3) := by decide +kernel
theorem dX1_pour_82 : decode cX1_pour 82 = .ok (.iconst 0, 1) := by decide +kernel
theorem dX1_pour_83 : decode cX1_pour 83 = .ok (.aaload, 1) := by decide +kernel
theorem dX1_pour_84 : decode cX1_pour 84 = .ok (.getfield 60, 3) := by decide +kernel
theorem dX1_pour_87 : decode cX1_pour 87 = .ok (.aload_n 0, 1) := by decide +kernel
theorem dX1_pour_88 : decode cX1_pour 88 = .ok (.getfield 12, 3) := by decide +kernel
theorem dX1_pour_91 : decode cX1_pour 91 = .ok (.iconst 0, 1) := by decide +kernel
theorem dX1_pour_92 : decode cX1_pour 92 = .ok (.aaload, 1) := by decide +kernel
theorem dX1_pour_93 : decode cX1_pour 93 = .ok (.getfield 54, 3) := by decide +kernel
theorem dX1_pour_96 : decode cX1_pour 96 = .ok (.iload_n 3, 1) := by decide +kernel
theorem dX1_pour_97 : decode cX1_pour 97 = .ok (.iaload, 1) := by decide +kernel
theorem dX1_pour_98 : decode cX1_pour 98 = .ok (.iaload, 1) := by decide +kernel
theorem dX1_pour_99 : decode cX1_pour 99 = .ok (.invokevirtual 26, 3) := by decide +kernel
theorem dX1_pour_102 : decode cX1_pour 102 = .ok (.ifCond .ge 5, 3) := by decide +kernel
theorem dX1_pour_105 : decode cX1_pour 105 = .ok (.iconst (-1), 1) := by decide +kernel
theorem dX1_pour_106 : decode cX1_pour 106 = .ok (.ireturn, 1) := by decide +kernel
theorem dX1_pour_107 : decode cX1_pour 107 = .ok (.iinc 3 1, 3) := by decide +kernel
theorem dX1_pour_110 : decode cX1_pour 110 = .ok (.goto (-51), 3) := by decide +kernel
theorem dX1_pour_113 : decode cX1_pour 113 = .ok (.aload_n 0, 1) := by decide +kernel
theorem dX1_pour_114 : decode cX1_pour 114 = .ok (.getfield 12, 3) := by decide +kernel
theorem dX1_pour_117 : decode cX1_pour 117 = .ok (.iload_n 1, 1) := by decide +kernel
theorem dX1_pour_118 : decode cX1_pour 118 = .ok (.aaload, 1) := by decide +kernel
theorem dX1_pour_119 : decode cX1_pour 119 = .ok (.getfield 63, 3) := by decide +kernel
theorem dX1_pour_122 : decode cX1_pour 122 = .ok (.istore_n 3, 1) := by decide +kernel
theorem dX1_pour_123 : decode cX1_pour 123 = .ok (.iload_n 3, 1) := by decide +kernel
theorem dX1_pour_124 : decode cX1_pour 124 = .ok (.ifCond .lt 46, 3) := by decide +kernel
theorem dX1_pour_127 : decode cX1_pour 127 = .ok (.aload_n 0, 1) := by decide +kernel
theorem dX1_pour_128 : decode cX1_pour 128 = .ok (.iload_n 2, 1) := by decide +kernel
theorem dX1_pour_129 : decode cX1_pour 129 = .ok (.aload_n 0, 1) := by decide +kernel
theorem dX1_pour_130 : decode cX1_pour 130 = .ok (.getfield 12, 3) := by decide +kernel
theorem dX1_pour_133 : decode cX1_pour 133 = .ok (.iload_n 1, 1) := by decide +kernel
theorem dX1_pour_134 : decode cX1_pour 134 = .ok (.aaload, 1) := by decide +kernel
theorem dX1_pour_135 : decode cX1_pour 135 = .ok (.getfield 60, 3) := by decide +kernel
theorem dX1_pour_138 : decode cX1_pour 138 = .ok (.iload_n 3, 1) := by decide +kernel
theorem dX1_pour_139 : decode cX1_pour 139 = .ok (.iaload, 1) := by decide +kernel
theorem dX1_pour_140 : decode cX1_pour 140 = .ok (.aload_n 0, 1) := by decide +kernel
theorem dX1_pour_141 : decode cX1_pour 141 = .ok (.getfield 12, 3) := by decide +kernel
theorem dX1_pour_144 : decode cX1_pour 144 = .ok (.iload_n 1, 1) := by decide +kernel
theorem dX1_pour_145 : decode cX1_pour 145 = .ok (.aaload, 1) := by decide +kernel
theorem dX1_pour_146 : decode cX1_pour 146 = .ok (.getfield 36, 3) := by decide +kernel
theorem dX1_pour_149 : decode cX1_pour 149 = .ok (.iload_n 3, 1) := by decide +kernel
theorem dX1_pour_150 : decode cX1_pour 150 = .ok (.iaload, 1) := by decide +kernel
theorem dX1_pour_151 : decode cX1_pour 151 = .ok (.invokevirtual 66, 3) := by decide +kernel
theorem dX1_pour_154 : decode cX1_pour 154 = .ok (.pop2, 1) := by decide +kernel
theorem dX1_pour_155 : decode cX1_pour 155 = .ok (.aload_n 0, 1) := by decide +kernel
theorem dX1_pour_156 : decode cX1_pour 156 = .ok (.getfield 12, 3) := by decide +kernel
theorem dX1_pour_159 : decode cX1_pour 159 = .ok (.iload_n 1, 1) := by decide +kernel
theorem dX1_pour_160 : decode cX1_pour 160 = .ok (.aaload, 1) := by decide +kernel
theorem dX1_pour_161 : decode cX1_pour 161 = .ok (.getfield 70, 3) := by decide +kernel
theorem dX1_pour_164 : decode cX1_pour 164 = .ok (.iload_n 3, 1) := by decide +kernel
theorem dX1_pour_165 : decode cX1_pour 165 = .ok (.iaload, 1) := by decide +kernel
theorem dX1_pour_166 : decode cX1_pour 166 = .ok (.istore_n 3, 1) := by decide +kernel
theorem dX1_pour_167 : decode cX1_pour 167 = .ok (.goto (-44), 3) := by decide +kernel
theorem dX1_pour_170 : decode cX1_pour 170 = .ok (.aload_n 0, 1) := by decide +kernel
theorem dX1_pour_171 : decode cX1_pour 171 = .ok (.getfield 12, 3) := by decide +kernel
theorem dX1_pour_174 : decode cX1_pour 174 = .ok (.iload_n 2, 1) := by decide +kernel
theorem dX1_pour_175 : decode cX1_pour 175 = .ok (.aaload, 1) := by decide +kernel
theorem dX1_pour_176 : decode cX1_pour 176 = .ok (.getfield 50, 3) := by decide +kernel
theorem dX1_pour_179 : decode cX1_pour 179 = .ok (.ireturn, 1) := by decide +kernel
abbrev cX1_entry : ByteArray := prog_3_method_14_code
def yX1_entry : MethodName := ⟨RX1, "entry", "(III)J"⟩
theorem dX1_entry_0 : decode cX1_entry 0 = .ok (.iload_n 1, 1) := by decide +kernel
theorem dX1_entry_1 : decode cX1_entry 1 = .ok (.iconst 1, 1) := by decide +kernel
theorem dX1_entry_2 : decode cX1_entry 2 = .ok (.if_icmp .eq 8, 3) := by decide +kernel
theorem dX1_entry_5 : decode cX1_entry 5 = .ok (.iload_n 1, 1) := by decide +kernel
theorem dX1_entry_6 : decode cX1_entry 6 = .ok (.iconst 2, 1) := by decide +kernel
theorem dX1_entry_7 : decode cX1_entry 7 = .ok (.if_icmp .ne 12, 3) := by decide +kernel
theorem dX1_entry_10 : decode cX1_entry 10 = .ok (.iload_n 3, 1) := by decide +kernel
theorem dX1_entry_11 : decode cX1_entry 11 = .ok (.ifCond .eq 12, 3) := by decide +kernel
theorem dX1_entry_14 : decode cX1_entry 14 = .ok (.iload_n 3, 1) := by decide +kernel
theorem dX1_entry_15 : decode cX1_entry 15 = .ok (.iconst 1, 1) := by decide +kernel
theorem dX1_entry_16 : decode cX1_entry 16 = .ok (.if_icmp .eq 7, 3) := by decide +kernel
theorem dX1_entry_19 : decode cX1_entry 19 = .ok (.ldc2_w 24, 3) := by decide +kernel
theorem dX1_entry_22 : decode cX1_entry 22 = .ok (.lreturn, 1) := by decide +kernel
theorem dX1_entry_23 : decode cX1_entry 23 = .ok (.iload_n 2, 1) := by decide +kernel
theorem dX1_entry_24 : decode cX1_entry 24 = .ok (.ifCond .lt 16, 3) := by decide +kernel
theorem dX1_entry_27 : decode cX1_entry 27 = .ok (.iload_n 2, 1) := by decide +kernel
theorem dX1_entry_28 : decode cX1_entry 28 = .ok (.aload_n 0, 1) := by decide +kernel
theorem dX1_entry_29 : decode cX1_entry 29 = .ok (.getfield 12, 3) := by decide +kernel
theorem dX1_entry_32 : decode cX1_entry 32 = .ok (.iload_n 1, 1) := by decide +kernel
theorem dX1_entry_33 : decode cX1_entry 33 = .ok (.aaload, 1) := by decide +kernel
theorem dX1_entry_34 : decode cX1_entry 34 = .ok (.getfield 50, 3) := by decide +kernel
theorem dX1_entry_37 : decode cX1_entry 37 = .ok (.if_icmp .lt 7, 3) := by decide +kernel
theorem dX1_entry_40 : decode cX1_entry 40 = .ok (.ldc2_w 34, 3) := by decide +kernel
theorem dX1_entry_43 : decode cX1_entry 43 = .ok (.lreturn, 1) := by decide +kernel
theorem dX1_entry_44 : decode cX1_entry 44 = .ok (.aload_n 0, 1) := by decide +kernel
theorem dX1_entry_45 : decode cX1_entry 45 = .ok (.getfield 12, 3) := by decide +kernel
theorem dX1_entry_48 : decode cX1_entry 48 = .ok (.iload_n 1, 1) := by decide +kernel
theorem dX1_entry_49 : decode cX1_entry 49 = .ok (.aaload, 1) := by decide +kernel
theorem dX1_entry_50 : decode cX1_entry 50 = .ok (.getfield 63, 3) := by decide +kernel
theorem dX1_entry_53 : decode cX1_entry 53 = .ok (.istore 4, 2) := by decide +kernel
theorem dX1_entry_55 : decode cX1_entry 55 = .ok (.iconst 0, 1) := by decide +kernel
theorem dX1_entry_56 : decode cX1_entry 56 = .ok (.istore 5, 2) := by decide +kernel
theorem dX1_entry_58 : decode cX1_entry 58 = .ok (.iload 5, 2) := by decide +kernel
theorem dX1_entry_60 : decode cX1_entry 60 = .ok (.iload_n 2, 1) := by decide +kernel
theorem dX1_entry_61 : decode cX1_entry 61 = .ok (.if_icmp .ge 23, 3) := by decide +kernel
theorem dX1_entry_64 : decode cX1_entry 64 = .ok (.aload_n 0, 1) := by decide +kernel
theorem dX1_entry_65 : decode cX1_entry 65 = .ok (.getfield 12, 3) := by decide +kernel
theorem dX1_entry_68 : decode cX1_entry 68 = .ok (.iload_n 1, 1) := by decide +kernel
theorem dX1_entry_69 : decode cX1_entry 69 = .ok (.aaload, 1) := by decide +kernel
theorem dX1_entry_70 : decode cX1_entry 70 = .ok (.getfield 70, 3) := by decide +kernel
theorem dX1_entry_73 : decode cX1_entry 73 = .ok (.iload 4, 2) := by decide +kernel
theorem dX1_entry_75 : decode cX1_entry 75 = .ok (.iaload, 1) := by decide +kernel
theorem dX1_entry_76 : decode cX1_entry 76 = .ok (.istore 4, 2) := by decide +kernel
theorem dX1_entry_78 : decode cX1_entry 78 = .ok (.iinc 5 1, 3) := by decide +kernel
theorem dX1_entry_81 : decode cX1_entry 81 = .ok (.goto (-23), 3) := by decide +kernel
theorem dX1_entry_84 : decode cX1_entry 84 = .ok (.iload_n 3, 1) := by decide +kernel
theorem dX1_entry_85 : decode cX1_entry 85 = .ok (.ifCond .ne 19, 3) := by decide +kernel
theorem dX1_entry_88 : decode cX1_entry 88 = .ok (.aload_n 0, 1) := by decide +kernel
theorem dX1_entry_89 : decode cX1_entry 89 = .ok (.getfield 12, 3) := by decide +kernel
theorem dX1_entry_92 : decode cX1_entry 92 = .ok (.iload_n 1, 1) := by decide +kernel
theorem dX1_entry_93 : decode cX1_entry 93 = .ok (.aaload, 1) := by decide +kernel
theorem dX1_entry_94 : decode cX1_entry 94 = .ok (.getfield 60, 3) := by decide +kernel
theorem dX1_entry_97 : decode cX1_entry 97 = .ok (.iload 4, 2) := by decide +kernel
theorem dX1_entry_99 : decode cX1_entry 99 = .ok (.iaload, 1) := by decide +kernel
theorem dX1_entry_100 : decode cX1_entry 100 = .ok (.i2l, 1) := by decide +kernel
theorem dX1_entry_101 : decode cX1_entry 101 = .ok (.goto 16, 3) := by decide +kernel
theorem dX1_entry_104 : decode cX1_entry 104 = .ok (.aload_n 0, 1) := by decide +kernel
theorem dX1_entry_105 : decode cX1_entry 105 = .ok (.getfield 12, 3) := by decide +kernel
theorem dX1_entry_108 : decode cX1_entry 108 = .ok (.iload_n 1, 1) := by decide +kernel
theorem dX1_entry_109 : decode cX1_entry 109 = .ok (.aaload, 1) := by decide +kernel
theorem dX1_entry_110 : decode cX1_entry 110 = .ok (.getfield 36, 3) := by decide +kernel
theorem dX1_entry_113 : decode cX1_entry 113 = .ok (.iload 4, 2) := by decide +kernel
theorem dX1_entry_115 : decode cX1_entry 115 = .ok (.iaload, 1) := by decide +kernel
theorem dX1_entry_116 : decode cX1_entry 116 = .ok (.i2l, 1) := by decide +kernel
theorem dX1_entry_117 : decode cX1_entry 117 = .ok (.lreturn, 1) := by decide +kernel
abbrev cX1_sum : ByteArray := prog_3_method_15_code
def yX1_sum : MethodName := ⟨RX1, "sum", "(I)J"⟩
theorem dX1_sum_0 : decode cX1_sum 0 = .ok (.iload_n 1, 1) := by decide +kernel
theorem dX1_sum_1 : decode cX1_sum 1 = .ok (.invokestatic 20, 3) := by decide +kernel
theorem dX1_sum_4 : decode cX1_sum 4 = .ok (.ifCond .ne 7, 3) := by decide +kernel
theorem dX1_sum_7 : decode cX1_sum 7 = .ok (.ldc2_w 24, 3) := by decide +kernel
theorem dX1_sum_10 : decode cX1_sum 10 = .ok (.lreturn, 1) := by decide +kernel
theorem dX1_sum_11 : decode cX1_sum 11 = .ok (.lconst 0, 1) := by decide +kernel
theorem dX1_sum_12 : decode cX1_sum 12 = .ok (.lstore_n 2, 1) := by decide +kernel
theorem dX1_sum_13 : decode cX1_sum 13 = .ok (.iconst 0, 1) := by decide +kernel
theorem dX1_sum_14 : decode cX1_sum 14 = .ok (.istore 4, 2) := by decide +kernel
theorem dX1_sum_16 : decode cX1_sum 16 = .ok (.iload 4, 2) := by decide +kernel
theorem dX1_sum_18 : decode cX1_sum 18 = .ok (.aload_n 0, 1) := by decide +kernel
theorem dX1_sum_19 : decode cX1_sum 19 = .ok (.getfield 12, 3) := by decide +kernel
theorem dX1_sum_22 : decode cX1_sum 22 = .ok (.iload_n 1, 1) := by decide +kernel
theorem dX1_sum_23 : decode cX1_sum 23 = .ok (.aaload, 1) := by decide +kernel
theorem dX1_sum_24 : decode cX1_sum 24 = .ok (.getfield 50, 3) := by decide +kernel
theorem dX1_sum_27 : decode cX1_sum 27 = .ok (.if_icmp .ge 63, 3) := by decide +kernel
theorem dX1_sum_30 : decode cX1_sum 30 = .ok (.lload_n 2, 1) := by decide +kernel
theorem dX1_sum_31 : decode cX1_sum 31 = .ok (.ldc2_w 73, 3) := by decide +kernel
theorem dX1_sum_34 : decode cX1_sum 34 = .ok (.aload_n 0, 1) := by decide +kernel
theorem dX1_sum_35 : decode cX1_sum 35 = .ok (.getfield 12, 3) := by decide +kernel
theorem dX1_sum_38 : decode cX1_sum 38 = .ok (.iload_n 1, 1) := by decide +kernel
theorem dX1_sum_39 : decode cX1_sum 39 = .ok (.aaload, 1) := by decide +kernel
theorem dX1_sum_40 : decode cX1_sum 40 = .ok (.getfield 60, 3) := by decide +kernel
theorem dX1_sum_43 : decode cX1_sum 43 = .ok (.aload_n 0, 1) := by decide +kernel
theorem dX1_sum_44 : decode cX1_sum 44 = .ok (.getfield 12, 3) := by decide +kernel
theorem dX1_sum_47 : decode cX1_sum 47 = .ok (.iload_n 1, 1) := by decide +kernel
theorem dX1_sum_48 : decode cX1_sum 48 = .ok (.aaload, 1) := by decide +kernel
theorem dX1_sum_49 : decode cX1_sum 49 = .ok (.getfield 54, 3) := by decide +kernel
theorem dX1_sum_52 : decode cX1_sum 52 = .ok (.iload 4, 2) := by decide +kernel
theorem dX1_sum_54 : decode cX1_sum 54 = .ok (.iaload, 1) := by decide +kernel
theorem dX1_sum_55 : decode cX1_sum 55 = .ok (.iaload, 1) := by decide +kernel
theorem dX1_sum_56 : decode cX1_sum 56 = .ok (.i2l, 1) := by decide +kernel
theorem dX1_sum_57 : decode cX1_sum 57 = .ok (.lmul, 1) := by decide +kernel
theorem dX1_sum_58 : decode cX1_sum 58 = .ok (.aload_n 0, 1) := by decide +kernel
theorem dX1_sum_59 : decode cX1_sum 59 = .ok (.getfield 12, 3) := by decide +kernel
theorem dX1_sum_62 : decode cX1_sum 62 = .ok (.iload_n 1, 1) := by decide +kernel
theorem dX1_sum_63 : decode cX1_sum 63 = .ok (.aaload, 1) := by decide +kernel
theorem dX1_sum_64 : decode cX1_sum 64 = .ok (.getfield 36, 3) := by decide +kernel
theorem dX1_sum_67 : decode cX1_sum 67 = .ok (.aload_n 0, 1) := by decide +kernel
theorem dX1_sum_68 : decode cX1_sum 68 = .ok (.getfield 12, 3) := by decide +kernel
theorem dX1_sum_71 : decode cX1_sum 71 = .ok (.iload_n 1, 1) := by decide +kernel
theorem dX1_sum_72 : decode cX1_sum 72 = .ok (.aaload, 1) := by decide +kernel
theorem dX1_sum_73 : decode cX1_sum 73 = .ok (.getfield 54, 3) := by decide +kernel
theorem dX1_sum_76 : decode cX1_sum 76 = .ok (.iload 4, 2) := by decide +kernel
theorem dX1_sum_78 : decode cX1_sum 78 = .ok (.iaload, 1) := by decide +kernel
theorem dX1_sum_79 : decode cX1_sum 79 = .ok (.iaload, 1) := by decide +kernel
theorem dX1_sum_80 : decode cX1_sum 80 = .ok (.i2l, 1) := by decide +kernel
theorem dX1_sum_81 : decode cX1_sum 81 = .ok (.ladd, 1) := by decide +kernel
theorem dX1_sum_82 : decode cX1_sum 82 = .ok (.ladd, 1) := by decide +kernel
theorem dX1_sum_83 : decode cX1_sum 83 = .ok (.lstore_n 2, 1) := by decide +kernel
theorem dX1_sum_84 : decode cX1_sum 84 = .ok (.iinc 4 1, 3) := by decide +kernel
theorem dX1_sum_87 : decode cX1_sum 87 = .ok (.goto (-71), 3) := by decide +kernel
theorem dX1_sum_90 : decode cX1_sum 90 = .ok (.lload_n 2, 1) := by decide +kernel
theorem dX1_sum_91 : decode cX1_sum 91 = .ok (.lreturn, 1) := by decide +kernel
abbrev cX1_sweep : ByteArray := prog_3_method_16_code
def yX1_sweep : MethodName := ⟨RX1, "sweep", "(III)I"⟩
theorem dX1_sweep_0 : decode cX1_sweep 0 = .ok (.iload_n 1, 1) := by decide +kernel
theorem dX1_sweep_1 : decode cX1_sweep 1 = .ok (.invokestatic 20, 3) := by decide +kernel
theorem dX1_sweep_4 : decode cX1_sweep 4 = .ok (.ifCond .eq 8, 3) := by decide +kernel
theorem dX1_sweep_7 : decode cX1_sweep 7 = .ok (.iload_n 2, 1) := by decide +kernel
theorem dX1_sweep_8 : decode cX1_sweep 8 = .ok (.iconst 1, 1) := by decide +kernel
theorem dX1_sweep_9 : decode cX1_sweep 9 = .ok (.if_icmp .ge 5, 3) := by decide +kernel
theorem dX1_sweep_12 : decode cX1_sweep 12 = .ok (.iconst (-1), 1) := by decide +kernel
theorem dX1_sweep_13 : decode cX1_sweep 13 = .ok (.ireturn, 1) := by decide +kernel
theorem dX1_sweep_14 : decode cX1_sweep 14 = .ok (.iconst 0, 1) := by decide +kernel
theorem dX1_sweep_15 : decode cX1_sweep 15 = .ok (.istore 4, 2) := by decide +kernel
theorem dX1_sweep_17 : decode cX1_sweep 17 = .ok (.aload_n 0, 1) := by decide +kernel
theorem dX1_sweep_18 : decode cX1_sweep 18 = .ok (.getfield 12, 3) := by decide +kernel
theorem dX1_sweep_21 : decode cX1_sweep 21 = .ok (.iload_n 1, 1) := by decide +kernel
theorem dX1_sweep_22 : decode cX1_sweep 22 = .ok (.aaload, 1) := by decide +kernel
theorem dX1_sweep_23 : decode cX1_sweep 23 = .ok (.getfield 50, 3) := by decide +kernel
theorem dX1_sweep_26 : decode cX1_sweep 26 = .ok (.iconst 1, 1) := by decide +kernel
theorem dX1_sweep_27 : decode cX1_sweep 27 = .ok (.isub, 1) := by decide +kernel
theorem dX1_sweep_28 : decode cX1_sweep 28 = .ok (.istore 5, 2) := by decide +kernel
theorem dX1_sweep_30 : decode cX1_sweep 30 = .ok (.iload 5, 2) := by decide +kernel
theorem dX1_sweep_32 : decode cX1_sweep 32 = .ok (.ifCond .lt 60, 3) := by decide +kernel
theorem dX1_sweep_35 : decode cX1_sweep 35 = .ok (.aload_n 0, 1) := by decide +kernel
theorem dX1_sweep_36 : decode cX1_sweep 36 = .ok (.getfield 12, 3) := by decide +kernel
theorem dX1_sweep_39 : decode cX1_sweep 39 = .ok (.iload_n 1, 1) := by decide +kernel
theorem dX1_sweep_40 : decode cX1_sweep 40 = .ok (.aaload, 1) := by decide +kernel
theorem dX1_sweep_41 : decode cX1_sweep 41 = .ok (.getfield 54, 3) := by decide +kernel
theorem dX1_sweep_44 : decode cX1_sweep 44 = .ok (.iload 5, 2) := by decide +kernel
theorem dX1_sweep_46 : decode cX1_sweep 46 = .ok (.iaload, 1) := by decide +kernel
theorem dX1_sweep_47 : decode cX1_sweep 47 = .ok (.istore 6, 2) := by decide +kernel
theorem dX1_sweep_49 : decode cX1_sweep 49 = .ok (.aload_n 0, 1) := by decide +kernel
theorem dX1_sweep_50 : decode cX1_sweep 50 = .ok (.getfield 12, 3) := by decide +kernel
theorem dX1_sweep_53 : decode cX1_sweep 53 = .ok (.iload_n 1, 1) := by decide +kernel
theorem dX1_sweep_54 : decode cX1_sweep 54 = .ok (.aaload, 1) := by decide +kernel
theorem dX1_sweep_55 : decode cX1_sweep 55 = .ok (.getfield 60, 3) := by decide +kernel
theorem dX1_sweep_58 : decode cX1_sweep 58 = .ok (.iload 6, 2) := by decide +kernel
theorem dX1_sweep_60 : decode cX1_sweep 60 = .ok (.iaload, 1) := by decide +kernel
theorem dX1_sweep_61 : decode cX1_sweep 61 = .ok (.iload_n 2, 1) := by decide +kernel
theorem dX1_sweep_62 : decode cX1_sweep 62 = .ok (.invokestatic 75, 3) := by decide +kernel
theorem dX1_sweep_65 : decode cX1_sweep 65 = .ok (.iload_n 3, 1) := by decide +kernel
theorem dX1_sweep_66 : decode cX1_sweep 66 = .ok (.if_icmp .eq 6, 3) := by decide +kernel
theorem dX1_sweep_69 : decode cX1_sweep 69 = .ok (.goto 17, 3) := by decide +kernel
theorem dX1_sweep_72 : decode cX1_sweep 72 = .ok (.aload_n 0, 1) := by decide +kernel
theorem dX1_sweep_73 : decode cX1_sweep 73 = .ok (.getfield 12, 3) := by decide +kernel
theorem dX1_sweep_76 : decode cX1_sweep 76 = .ok (.iload_n 1, 1) := by decide +kernel
theorem dX1_sweep_77 : decode cX1_sweep 77 = .ok (.aaload, 1) := by decide +kernel
theorem dX1_sweep_78 : decode cX1_sweep 78 = .ok (.iload 6, 2) := by decide +kernel
theorem dX1_sweep_80 : decode cX1_sweep 80 = .ok (.invokevirtual 47, 3) := by decide +kernel
theorem dX1_sweep_83 : decode cX1_sweep 83 = .ok (.iinc 4 1, 3) := by decide +kernel
theorem dX1_sweep_86 : decode cX1_sweep 86 = .ok (.iinc 5 (-1), 3) := by decide +kernel
theorem dX1_sweep_89 : decode cX1_sweep 89 = .ok (.goto (-59), 3) := by decide +kernel
theorem dX1_sweep_92 : decode cX1_sweep 92 = .ok (.iload 4, 2) := by decide +kernel
theorem dX1_sweep_94 : decode cX1_sweep 94 = .ok (.ireturn, 1) := by decide +kernel
abbrev cX1_raise : ByteArray := prog_3_method_17_code
def yX1_raise : MethodName := ⟨RX1, "raise", "(II)I"⟩
theorem dX1_raise_0 : decode cX1_raise 0 = .ok (.iload_n 1, 1) := by decide +kernel
theorem dX1_raise_1 : decode cX1_raise 1 = .ok (.invokestatic 20, 3) := by decide +kernel
theorem dX1_raise_4 : decode cX1_raise 4 = .ok (.ifCond .ne 5, 3) := by decide +kernel
theorem dX1_raise_7 : decode cX1_raise 7 = .ok (.iconst (-1), 1) := by decide +kernel
theorem dX1_raise_8 : decode cX1_raise 8 = .ok (.ireturn, 1) := by decide +kernel
theorem dX1_raise_9 : decode cX1_raise 9 = .ok (.iconst 0, 1) := by decide +kernel
theorem dX1_raise_10 : decode cX1_raise 10 = .ok (.istore_n 3, 1) := by decide +kernel
theorem dX1_raise_11 : decode cX1_raise 11 = .ok (.iload_n 3, 1) := by decide +kernel
theorem dX1_raise_12 : decode cX1_raise 12 = .ok (.aload_n 0, 1) := by decide +kernel
theorem dX1_raise_13 : decode cX1_raise 13 = .ok (.getfield 12, 3) := by decide +kernel
theorem dX1_raise_16 : decode cX1_raise 16 = .ok (.iload_n 1, 1) := by decide +kernel
theorem dX1_raise_17 : decode cX1_raise 17 = .ok (.aaload, 1) := by decide +kernel
theorem dX1_raise_18 : decode cX1_raise 18 = .ok (.getfield 50, 3) := by decide +kernel
theorem dX1_raise_21 : decode cX1_raise 21 = .ok (.if_icmp .ge 34, 3) := by decide +kernel
theorem dX1_raise_24 : decode cX1_raise 24 = .ok (.aload_n 0, 1) := by decide +kernel
theorem dX1_raise_25 : decode cX1_raise 25 = .ok (.getfield 12, 3) := by decide +kernel
theorem dX1_raise_28 : decode cX1_raise 28 = .ok (.iload_n 1, 1) := by decide +kernel
theorem dX1_raise_29 : decode cX1_raise 29 = .ok (.aaload, 1) := by decide +kernel
theorem dX1_raise_30 : decode cX1_raise 30 = .ok (.getfield 36, 3) := by decide +kernel
theorem dX1_raise_33 : decode cX1_raise 33 = .ok (.aload_n 0, 1) := by decide +kernel
theorem dX1_raise_34 : decode cX1_raise 34 = .ok (.getfield 12, 3) := by decide +kernel
theorem dX1_raise_37 : decode cX1_raise 37 = .ok (.iload_n 1, 1) := by decide +kernel
theorem dX1_raise_38 : decode cX1_raise 38 = .ok (.aaload, 1) := by decide +kernel
theorem dX1_raise_39 : decode cX1_raise 39 = .ok (.getfield 54, 3) := by decide +kernel
theorem dX1_raise_42 : decode cX1_raise 42 = .ok (.iload_n 3, 1) := by decide +kernel
theorem dX1_raise_43 : decode cX1_raise 43 = .ok (.iaload, 1) := by decide +kernel
theorem dX1_raise_44 : decode cX1_raise 44 = .ok (.dup2, 1) := by decide +kernel
theorem dX1_raise_45 : decode cX1_raise 45 = .ok (.iaload, 1) := by decide +kernel
theorem dX1_raise_46 : decode cX1_raise 46 = .ok (.iload_n 2, 1) := by decide +kernel
theorem dX1_raise_47 : decode cX1_raise 47 = .ok (.iadd, 1) := by decide +kernel
theorem dX1_raise_48 : decode cX1_raise 48 = .ok (.iastore, 1) := by decide +kernel
theorem dX1_raise_49 : decode cX1_raise 49 = .ok (.iinc 3 1, 3) := by decide +kernel
theorem dX1_raise_52 : decode cX1_raise 52 = .ok (.goto (-41), 3) := by decide +kernel
theorem dX1_raise_55 : decode cX1_raise 55 = .ok (.aload_n 0, 1) := by decide +kernel
theorem dX1_raise_56 : decode cX1_raise 56 = .ok (.getfield 12, 3) := by decide +kernel
theorem dX1_raise_59 : decode cX1_raise 59 = .ok (.iload_n 1, 1) := by decide +kernel
theorem dX1_raise_60 : decode cX1_raise 60 = .ok (.aaload, 1) := by decide +kernel
theorem dX1_raise_61 : decode cX1_raise 61 = .ok (.getfield 50, 3) := by decide +kernel
theorem dX1_raise_64 : decode cX1_raise 64 = .ok (.ireturn, 1) := by decide +kernel
abbrev cX1_same : ByteArray := prog_3_method_18_code
def yX1_same : MethodName := ⟨RX1, "same", "(II)Z"⟩
theorem dX1_same_0 : decode cX1_same 0 = .ok (.iload_n 1, 1) := by decide +kernel
theorem dX1_same_1 : decode cX1_same 1 = .ok (.invokestatic 20, 3) := by decide +kernel
theorem dX1_same_4 : decode cX1_same 4 = .ok (.ifCond .eq 31, 3) := by decide +kernel
theorem dX1_same_7 : decode cX1_same 7 = .ok (.iload_n 2, 1) := by decide +kernel
theorem dX1_same_8 : decode cX1_same 8 = .ok (.invokestatic 20, 3) := by decide +kernel
theorem dX1_same_11 : decode cX1_same 11 = .ok (.ifCond .eq 24, 3) := by decide +kernel
theorem dX1_same_14 : decode cX1_same 14 = .ok (.aload_n 0, 1) := by decide +kernel
theorem dX1_same_15 : decode cX1_same 15 = .ok (.getfield 12, 3) := by decide +kernel
theorem dX1_same_18 : decode cX1_same 18 = .ok (.iload_n 1, 1) := by decide +kernel
theorem dX1_same_19 : decode cX1_same 19 = .ok (.aaload, 1) := by decide +kernel
theorem dX1_same_20 : decode cX1_same 20 = .ok (.getfield 50, 3) := by decide +kernel
theorem dX1_same_23 : decode cX1_same 23 = .ok (.aload_n 0, 1) := by decide +kernel
theorem dX1_same_24 : decode cX1_same 24 = .ok (.getfield 12, 3) := by decide +kernel
theorem dX1_same_27 : decode cX1_same 27 = .ok (.iload_n 2, 1) := by decide +kernel
theorem dX1_same_28 : decode cX1_same 28 = .ok (.aaload, 1) := by decide +kernel
theorem dX1_same_29 : decode cX1_same 29 = .ok (.getfield 50, 3) := by decide +kernel
theorem dX1_same_32 : decode cX1_same 32 = .ok (.if_icmp .eq 5, 3) := by decide +kernel
theorem dX1_same_35 : decode cX1_same 35 = .ok (.iconst 0, 1) := by decide +kernel
theorem dX1_same_36 : decode cX1_same 36 = .ok (.ireturn, 1) := by decide +kernel
theorem dX1_same_37 : decode cX1_same 37 = .ok (.iconst 0, 1) := by decide +kernel
theorem dX1_same_38 : decode cX1_same 38 = .ok (.istore_n 3, 1) := by decide +kernel
theorem dX1_same_39 : decode cX1_same 39 = .ok (.iload_n 3, 1) := by decide +kernel
theorem dX1_same_40 : decode cX1_same 40 = .ok (.aload_n 0, 1) := by decide +kernel
theorem dX1_same_41 : decode cX1_same 41 = .ok (.getfield 12, 3) := by decide +kernel
theorem dX1_same_44 : decode cX1_same 44 = .ok (.iload_n 1, 1) := by decide +kernel
theorem dX1_same_45 : decode cX1_same 45 = .ok (.aaload, 1) := by decide +kernel
theorem dX1_same_46 : decode cX1_same 46 = .ok (.getfield 50, 3) := by decide +kernel
theorem dX1_same_49 : decode cX1_same 49 = .ok (.if_icmp .ge 91, 3) := by decide +kernel
theorem dX1_same_52 : decode cX1_same 52 = .ok (.aload_n 0, 1) := by decide +kernel
theorem dX1_same_53 : decode cX1_same 53 = .ok (.getfield 12, 3) := by decide +kernel
theorem dX1_same_56 : decode cX1_same 56 = .ok (.iload_n 1, 1) := by decide +kernel
theorem dX1_same_57 : decode cX1_same 57 = .ok (.aaload, 1) := by decide +kernel
theorem dX1_same_58 : decode cX1_same 58 = .ok (.getfield 54, 3) := by decide +kernel
theorem dX1_same_61 : decode cX1_same 61 = .ok (.iload_n 3, 1) := by decide +kernel
theorem dX1_same_62 : decode cX1_same 62 = .ok (.iaload, 1) := by decide +kernel
theorem dX1_same_63 : decode cX1_same 63 = .ok (.istore 4, 2) := by decide +kernel
theorem dX1_same_65 : decode cX1_same 65 = .ok (.aload_n 0, 1) := by decide +kernel
theorem dX1_same_66 : decode cX1_same 66 = .ok (.getfield 12, 3) := by decide +kernel
theorem dX1_same_69 : decode cX1_same 69 = .ok (.iload_n 2, 1) := by decide +kernel
theorem dX1_same_70 : decode cX1_same 70 = .ok (.aaload, 1) := by decide +kernel
theorem dX1_same_71 : decode cX1_same 71 = .ok (.getfield 54, 3) := by decide +kernel
theorem dX1_same_74 : decode cX1_same 74 = .ok (.iload_n 3, 1) := by decide +kernel
theorem dX1_same_75 : decode cX1_same 75 = .ok (.iaload, 1) := by decide +kernel
theorem dX1_same_76 : decode cX1_same 76 = .ok (.istore 5, 2) := by decide +kernel
theorem dX1_same_78 : decode cX1_same 78 = .ok (.aload_n 0, 1) := by decide +kernel
theorem dX1_same_79 : decode cX1_same 79 = .ok (.getfield 12, 3) := by decide +kernel
theorem dX1_same_82 : decode cX1_same 82 = .ok (.iload_n 1, 1) := by decide +kernel
theorem dX1_same_83 : decode cX1_same 83 = .ok (.aaload, 1) := by decide +kernel
theorem dX1_same_84 : decode cX1_same 84 = .ok (.getfield 60, 3) := by decide +kernel
theorem dX1_same_87 : decode cX1_same 87 = .ok (.iload 4, 2) := by decide +kernel
theorem dX1_same_89 : decode cX1_same 89 = .ok (.iaload, 1) := by decide +kernel
theorem dX1_same_90 : decode cX1_same 90 = .ok (.aload_n 0, 1) := by decide +kernel
theorem dX1_same_91 : decode cX1_same 91 = .ok (.getfield 12, 3) := by decide +kernel
theorem dX1_same_94 : decode cX1_same 94 = .ok (.iload_n 2, 1) := by decide +kernel
theorem dX1_same_95 : decode cX1_same 95 = .ok (.aaload, 1) := by decide +kernel
theorem dX1_same_96 : decode cX1_same 96 = .ok (.getfield 60, 3) := by decide +kernel
theorem dX1_same_99 : decode cX1_same 99 = .ok (.iload 5, 2) := by decide +kernel
theorem dX1_same_101 : decode cX1_same 101 = .ok (.iaload, 1) := by decide +kernel
theorem dX1_same_102 : decode cX1_same 102 = .ok (.if_icmp .ne 30, 3) := by decide +kernel
theorem dX1_same_105 : decode cX1_same 105 = .ok (.aload_n 0, 1) := by decide +kernel
theorem dX1_same_106 : decode cX1_same 106 = .ok (.getfield 12, 3) := by decide +kernel
theorem dX1_same_109 : decode cX1_same 109 = .ok (.iload_n 1, 1) := by decide +kernel
theorem dX1_same_110 : decode cX1_same 110 = .ok (.aaload, 1) := by decide +kernel
theorem dX1_same_111 : decode cX1_same 111 = .ok (.getfield 36, 3) := by decide +kernel
theorem dX1_same_114 : decode cX1_same 114 = .ok (.iload 4, 2) := by decide +kernel
theorem dX1_same_116 : decode cX1_same 116 = .ok (.iaload, 1) := by decide +kernel
theorem dX1_same_117 : decode cX1_same 117 = .ok (.aload_n 0, 1) := by decide +kernel
theorem dX1_same_118 : decode cX1_same 118 = .ok (.getfield 12, 3) := by decide +kernel
theorem dX1_same_121 : decode cX1_same 121 = .ok (.iload_n 2, 1) := by decide +kernel
theorem dX1_same_122 : decode cX1_same 122 = .ok (.aaload, 1) := by decide +kernel
theorem dX1_same_123 : decode cX1_same 123 = .ok (.getfield 36, 3) := by decide +kernel
theorem dX1_same_126 : decode cX1_same 126 = .ok (.iload 5, 2) := by decide +kernel
theorem dX1_same_128 : decode cX1_same 128 = .ok (.iaload, 1) := by decide +kernel
theorem dX1_same_129 : decode cX1_same 129 = .ok (.if_icmp .eq 5, 3) := by decide +kernel
theorem dX1_same_132 : decode cX1_same 132 = .ok (.iconst 0, 1) := by decide +kernel
theorem dX1_same_133 : decode cX1_same 133 = .ok (.ireturn, 1) := by decide +kernel
theorem dX1_same_134 : decode cX1_same 134 = .ok (.iinc 3 1, 3) := by decide +kernel
theorem dX1_same_137 : decode cX1_same 137 = .ok (.goto (-98), 3) := by decide +kernel
theorem dX1_same_140 : decode cX1_same 140 = .ok (.iconst 1, 1) := by decide +kernel
theorem dX1_same_141 : decode cX1_same 141 = .ok (.ireturn, 1) := by decide +kernel
abbrev cX1_fill : ByteArray := prog_3_method_19_code
def yX1_fill : MethodName := ⟨RX1, "fill", "(IIII)I"⟩
theorem dX1_fill_0 : decode cX1_fill 0 = .ok (.iload_n 1, 1) := by decide +kernel
theorem dX1_fill_1 : decode cX1_fill 1 = .ok (.invokestatic 20, 3) := by decide +kernel
theorem dX1_fill_4 : decode cX1_fill 4 = .ok (.ifCond .eq 32, 3) := by decide +kernel
theorem dX1_fill_7 : decode cX1_fill 7 = .ok (.iload 4, 2) := by decide +kernel
theorem dX1_fill_9 : decode cX1_fill 9 = .ok (.iconst 1, 1) := by decide +kernel
theorem dX1_fill_10 : decode cX1_fill 10 = .ok (.if_icmp .lt 26, 3) := by decide +kernel
theorem dX1_fill_13 : decode cX1_fill 13 = .ok (.iload 4, 2) := by decide +kernel
theorem dX1_fill_15 : decode cX1_fill 15 = .ok (.sipush 400, 3) := by decide +kernel
theorem dX1_fill_18 : decode cX1_fill 18 = .ok (.if_icmp .gt 18, 3) := by decide +kernel
theorem dX1_fill_21 : decode cX1_fill 21 = .ok (.aload_n 0, 1) := by decide +kernel
theorem dX1_fill_22 : decode cX1_fill 22 = .ok (.getfield 12, 3) := by decide +kernel
theorem dX1_fill_25 : decode cX1_fill 25 = .ok (.iload_n 1, 1) := by decide +kernel
theorem dX1_fill_26 : decode cX1_fill 26 = .ok (.aaload, 1) := by decide +kernel
theorem dX1_fill_27 : decode cX1_fill 27 = .ok (.getfield 50, 3) := by decide +kernel
theorem dX1_fill_30 : decode cX1_fill 30 = .ok (.sipush 1000, 3) := by decide +kernel
theorem dX1_fill_33 : decode cX1_fill 33 = .ok (.if_icmp .le 5, 3) := by decide +kernel
theorem dX1_fill_36 : decode cX1_fill 36 = .ok (.iconst (-1), 1) := by decide +kernel
theorem dX1_fill_37 : decode cX1_fill 37 = .ok (.ireturn, 1) := by decide +kernel
theorem dX1_fill_38 : decode cX1_fill 38 = .ok (.iconst 0, 1) := by decide +kernel
theorem dX1_fill_39 : decode cX1_fill 39 = .ok (.istore 5, 2) := by decide +kernel
theorem dX1_fill_41 : decode cX1_fill 41 = .ok (.iload 5, 2) := by decide +kernel
theorem dX1_fill_43 : decode cX1_fill 43 = .ok (.iload 4, 2) := by decide +kernel
theorem dX1_fill_45 : decode cX1_fill 45 = .ok (.if_icmp .ge 23, 3) := by decide +kernel
theorem dX1_fill_48 : decode cX1_fill 48 = .ok (.aload_n 0, 1) := by decide +kernel
theorem dX1_fill_49 : decode cX1_fill 49 = .ok (.iload_n 1, 1) := by decide +kernel
theorem dX1_fill_50 : decode cX1_fill 50 = .ok (.iload_n 2, 1) := by decide +kernel
theorem dX1_fill_51 : decode cX1_fill 51 = .ok (.iload 5, 2) := by decide +kernel
theorem dX1_fill_53 : decode cX1_fill 53 = .ok (.iload_n 3, 1) := by decide +kernel
theorem dX1_fill_54 : decode cX1_fill 54 = .ok (.imul, 1) := by decide +kernel
theorem dX1_fill_55 : decode cX1_fill 55 = .ok (.iadd, 1) := by decide +kernel
theorem dX1_fill_56 : decode cX1_fill 56 = .ok (.iload 5, 2) := by decide +kernel
theorem dX1_fill_58 : decode cX1_fill 58 = .ok (.invokevirtual 66, 3) := by decide +kernel
theorem dX1_fill_61 : decode cX1_fill 61 = .ok (.pop2, 1) := by decide +kernel
theorem dX1_fill_62 : decode cX1_fill 62 = .ok (.iinc 5 1, 3) := by decide +kernel
theorem dX1_fill_65 : decode cX1_fill 65 = .ok (.goto (-24), 3) := by decide +kernel
theorem dX1_fill_68 : decode cX1_fill 68 = .ok (.aload_n 0, 1) := by decide +kernel
theorem dX1_fill_69 : decode cX1_fill 69 = .ok (.getfield 12, 3) := by decide +kernel
theorem dX1_fill_72 : decode cX1_fill 72 = .ok (.iload_n 1, 1) := by decide +kernel
theorem dX1_fill_73 : decode cX1_fill 73 = .ok (.aaload, 1) := by decide +kernel
theorem dX1_fill_74 : decode cX1_fill 74 = .ok (.getfield 50, 3) := by decide +kernel
theorem dX1_fill_77 : decode cX1_fill 77 = .ok (.ireturn, 1) := by decide +kernel
theorem q16 : (Jvm.Cond.initialized "HashHallModel") ∈ lw_all := lw_g (lw_at lw_m1 8 rfl) rfl
theorem q197 : (Jvm.Cond.selects "HashHallModel" ({ cls := "java/lang/Object", name := "hashCode", desc := "()I" } : Jvm.MethodName) ({ cls := "java/lang/Object", name := "hashCode", desc := "()I" } : Jvm.MethodName)) ∈ lw_all := lw_g (lw_at lw_m1 189 rfl) rfl
theorem q318 : (Jvm.Cond.selects "HashHallModel" ({ cls := "java/lang/Object", name := "getClass", desc := "()Ljava/lang/Class;" } : Jvm.MethodName) ({ cls := "java/lang/Object", name := "getClass", desc := "()Ljava/lang/Class;" } : Jvm.MethodName)) ∈ lw_all := lw_g (lw_at lw_m2 70 rfl) rfl
theorem q386 : (Jvm.Cond.selects "HashHallModel" ({ cls := "java/lang/Object", name := "equals", desc := "(Ljava/lang/Object;)Z" } : Jvm.MethodName) ({ cls := "java/lang/Object", name := "equals", desc := "(Ljava/lang/Object;)Z" } : Jvm.MethodName)) ∈ lw_all := lw_g (lw_at lw_m2 138 rfl) rfl
theorem q1099 : (Jvm.Cond.instantiable "HashHallModel" (1 : Nat)) ∈ lw_all := lw_g (lw_at lw_m5 131 rfl) rfl
theorem q1101 : (Jvm.Cond.instanceMethod ({ cls := "HashHallModel", name := "<init>", desc := "()V" } : Jvm.MethodName)) ∈ lw_all := lw_g (lw_at lw_m5 133 rfl) rfl
theorem q1102 : (Jvm.Cond.code ({ cls := "HashHallModel", name := "<init>", desc := "()V" } : Jvm.MethodName) prog_3_method_1_code (1 : Nat) (Option.none : Option Jvm.ClassFile.FieldType)) ∈ lw_all := lw_g (lw_at lw_m5 134 rfl) rfl
theorem q1103 : (Jvm.Cond.methodLink "HashHallModel" (3 : Nat) ({ cls := "java/lang/Object", name := "<init>", desc := "()V" } : Jvm.MethodName)) ∈ lw_all := lw_g (lw_at lw_m5 135 rfl) rfl
theorem q1104 : (Jvm.Cond.classLink "HashHallModel" (9 : Nat) "HashHallModel$Pairs") ∈ lw_all := lw_g (lw_at lw_m5 136 rfl) rfl
theorem q1107 : (Jvm.Cond.methodLinkNest "HashHallModel" (11 : Nat) ({ cls := "HashHallModel$Pairs", name := "<init>", desc := "()V" } : Jvm.MethodName) "HashHallModel") ∈ lw_tbl := lw_at lw_m5 139 rfl
theorem q1112 : (Jvm.Cond.fieldLink "HashHallModel" (54 : Nat) "HashHallModel$Pairs" "sorted" "[I") ∈ lw_all := lw_g (lw_at lw_m5 144 rfl) rfl
theorem q1114 : (Jvm.Cond.fieldLink "HashHallModel" (60 : Nat) "HashHallModel$Pairs" "key" "[I") ∈ lw_all := lw_g (lw_at lw_m5 146 rfl) rfl
theorem q1116 : (Jvm.Cond.fieldLink "HashHallModel" (36 : Nat) "HashHallModel$Pairs" "value" "[I") ∈ lw_all := lw_g (lw_at lw_m5 148 rfl) rfl
theorem q1119 : (Jvm.Cond.fieldLink "HashHallModel" (70 : Nat) "HashHallModel$Pairs" "behind" "[I") ∈ lw_all := lw_g (lw_at lw_m5 151 rfl) rfl
theorem q1121 : (Jvm.Cond.fieldLink "HashHallModel" (50 : Nat) "HashHallModel$Pairs" "many" "I") ∈ lw_all := lw_g (lw_at lw_m5 153 rfl) rfl
theorem q1125 : (Jvm.Cond.fieldLink "HashHallModel" (63 : Nat) "HashHallModel$Pairs" "first" "I") ∈ lw_all := lw_g (lw_at lw_m5 157 rfl) rfl
theorem q1149 : (Jvm.Cond.fieldLink "HashHallModel" (12 : Nat) "HashHallModel" "map" "[LHashHallModel$Pairs;") ∈ lw_all := lw_g (lw_at lw_m5 181 rfl) rfl
theorem q1150 : (Jvm.Cond.laysFinal "HashHallModel" "HashHallModel" "map" "[LHashHallModel$Pairs;") ∈ lw_all := lw_g (lw_at lw_m5 182 rfl) rfl
theorem q1151 : (Jvm.Cond.soleField "HashHallModel" "map") ∈ lw_all := lw_g (lw_at lw_m5 183 rfl) rfl
theorem q1152 : (Jvm.Cond.superclass "HashHallModel" "java/lang/Object") ∈ lw_all := lw_g (lw_at lw_m5 184 rfl) rfl
theorem q1154 : (Jvm.Cond.instanceMethod ({ cls := "HashHallModel", name := "put", desc := "(III)J" } : Jvm.MethodName)) ∈ lw_all := lw_g (lw_at lw_m5 186 rfl) rfl
theorem q1155 : (Jvm.Cond.selects "HashHallModel" ({ cls := "HashHallModel", name := "put", desc := "(III)J" } : Jvm.MethodName) ({ cls := "HashHallModel", name := "put", desc := "(III)J" } : Jvm.MethodName)) ∈ lw_all := lw_g (lw_at lw_m5 187 rfl) rfl
theorem q1156 : (Jvm.Cond.code ({ cls := "HashHallModel", name := "put", desc := "(III)J" } : Jvm.MethodName) prog_3_method_4_code (6 : Nat) (Option.some Jvm.ClassFile.FieldType.long)) ∈ lw_all := lw_g (lw_at lw_m5 188 rfl) rfl
theorem q1157 : (Jvm.Cond.methodLink "HashHallModel" (20 : Nat) ({ cls := "HashHallModel", name := "isMap", desc := "(I)Z" } : Jvm.MethodName)) ∈ lw_all := lw_g (lw_at lw_m5 189 rfl) rfl
theorem q1158 : (Jvm.Cond.static ({ cls := "HashHallModel", name := "isMap", desc := "(I)Z" } : Jvm.MethodName)) ∈ lw_all := lw_g (lw_at lw_m5 190 rfl) rfl
theorem q1159 : (Jvm.Cond.code ({ cls := "HashHallModel", name := "isMap", desc := "(I)Z" } : Jvm.MethodName) prog_3_method_2_code (1 : Nat) (Option.some Jvm.ClassFile.FieldType.boolean)) ∈ lw_all := lw_g (lw_at lw_m5 191 rfl) rfl
theorem q1160 : (Jvm.Cond.constantLong "HashHallModel" (24 : Nat) (1099511627777 : Int64)) ∈ lw_all := lw_g (lw_at lw_m5 192 rfl) rfl
theorem q1161 : (Jvm.Cond.methodLink "HashHallModel" (26 : Nat) ({ cls := "HashHallModel$Pairs", name := "find", desc := "(I)I" } : Jvm.MethodName)) ∈ lw_all := lw_g (lw_at lw_m5 193 rfl) rfl
theorem q1169 : (Jvm.Cond.methodLink "HashHallModel" (30 : Nat) ({ cls := "HashHallModel$Pairs", name := "insert", desc := "(II)V" } : Jvm.MethodName)) ∈ lw_all := lw_g (lw_at lw_m5 201 rfl) rfl
theorem q1198 : (Jvm.Cond.constantLong "HashHallModel" (34 : Nat) (1099511627776 : Int64)) ∈ lw_all := lw_g (lw_at lw_m5 230 rfl) rfl
theorem q1199 : (Jvm.Cond.methodLink "HashHallModel" (40 : Nat) ({ cls := "HashHallModel", name := "use", desc := "(II)V" } : Jvm.MethodName)) ∈ lw_all := lw_g (lw_at lw_m5 231 rfl) rfl
theorem q1200 : (Jvm.Cond.privateMethod ({ cls := "HashHallModel", name := "use", desc := "(II)V" } : Jvm.MethodName)) ∈ lw_tbl := lw_at lw_m5 232 rfl
theorem q1201 : (Jvm.Cond.instanceMethod ({ cls := "HashHallModel", name := "use", desc := "(II)V" } : Jvm.MethodName)) ∈ lw_all := lw_g (lw_at lw_m5 233 rfl) rfl
theorem q1202 : (Jvm.Cond.code ({ cls := "HashHallModel", name := "use", desc := "(II)V" } : Jvm.MethodName) prog_3_method_3_code (3 : Nat) (Option.none : Option Jvm.ClassFile.FieldType)) ∈ lw_all := lw_g (lw_at lw_m5 234 rfl) rfl
theorem q1203 : (Jvm.Cond.methodLink "HashHallModel" (16 : Nat) ({ cls := "HashHallModel$Pairs", name := "toLast", desc := "(I)V" } : Jvm.MethodName)) ∈ lw_all := lw_g (lw_at lw_m5 235 rfl) rfl
theorem q1212 : (Jvm.Cond.instanceMethod ({ cls := "HashHallModel", name := "add", desc := "(III)J" } : Jvm.MethodName)) ∈ lw_all := lw_g (lw_at lw_m6 4 rfl) rfl
theorem q1213 : (Jvm.Cond.selects "HashHallModel" ({ cls := "HashHallModel", name := "add", desc := "(III)J" } : Jvm.MethodName) ({ cls := "HashHallModel", name := "add", desc := "(III)J" } : Jvm.MethodName)) ∈ lw_all := lw_g (lw_at lw_m6 5 rfl) rfl
theorem q1214 : (Jvm.Cond.code ({ cls := "HashHallModel", name := "add", desc := "(III)J" } : Jvm.MethodName) prog_3_method_5_code (5 : Nat) (Option.some Jvm.ClassFile.FieldType.long)) ∈ lw_all := lw_g (lw_at lw_m6 6 rfl) rfl
theorem q1216 : (Jvm.Cond.instanceMethod ({ cls := "HashHallModel", name := "get", desc := "(II)J" } : Jvm.MethodName)) ∈ lw_all := lw_g (lw_at lw_m6 8 rfl) rfl
theorem q1217 : (Jvm.Cond.selects "HashHallModel" ({ cls := "HashHallModel", name := "get", desc := "(II)J" } : Jvm.MethodName) ({ cls := "HashHallModel", name := "get", desc := "(II)J" } : Jvm.MethodName)) ∈ lw_all := lw_g (lw_at lw_m6 9 rfl) rfl
theorem q1218 : (Jvm.Cond.code ({ cls := "HashHallModel", name := "get", desc := "(II)J" } : Jvm.MethodName) prog_3_method_6_code (4 : Nat) (Option.some Jvm.ClassFile.FieldType.long)) ∈ lw_all := lw_g (lw_at lw_m6 10 rfl) rfl
theorem q1220 : (Jvm.Cond.instanceMethod ({ cls := "HashHallModel", name := "give", desc := "(III)J" } : Jvm.MethodName)) ∈ lw_all := lw_g (lw_at lw_m6 12 rfl) rfl
theorem q1221 : (Jvm.Cond.selects "HashHallModel" ({ cls := "HashHallModel", name := "give", desc := "(III)J" } : Jvm.MethodName) ({ cls := "HashHallModel", name := "give", desc := "(III)J" } : Jvm.MethodName)) ∈ lw_all := lw_g (lw_at lw_m6 13 rfl) rfl
theorem q1222 : (Jvm.Cond.code ({ cls := "HashHallModel", name := "give", desc := "(III)J" } : Jvm.MethodName) prog_3_method_7_code (6 : Nat) (Option.some Jvm.ClassFile.FieldType.long)) ∈ lw_all := lw_g (lw_at lw_m6 14 rfl) rfl
theorem q1223 : (Jvm.Cond.methodLink "HashHallModel" (43 : Nat) ({ cls := "HashHallModel", name := "get", desc := "(II)J" } : Jvm.MethodName)) ∈ lw_all := lw_g (lw_at lw_m6 15 rfl) rfl
theorem q1225 : (Jvm.Cond.instanceMethod ({ cls := "HashHallModel", name := "remove", desc := "(II)J" } : Jvm.MethodName)) ∈ lw_all := lw_g (lw_at lw_m6 17 rfl) rfl
theorem q1226 : (Jvm.Cond.selects "HashHallModel" ({ cls := "HashHallModel", name := "remove", desc := "(II)J" } : Jvm.MethodName) ({ cls := "HashHallModel", name := "remove", desc := "(II)J" } : Jvm.MethodName)) ∈ lw_all := lw_g (lw_at lw_m6 18 rfl) rfl
theorem q1227 : (Jvm.Cond.code ({ cls := "HashHallModel", name := "remove", desc := "(II)J" } : Jvm.MethodName) prog_3_method_8_code (5 : Nat) (Option.some Jvm.ClassFile.FieldType.long)) ∈ lw_all := lw_g (lw_at lw_m6 19 rfl) rfl
theorem q1228 : (Jvm.Cond.methodLink "HashHallModel" (47 : Nat) ({ cls := "HashHallModel$Pairs", name := "delete", desc := "(I)V" } : Jvm.MethodName)) ∈ lw_all := lw_g (lw_at lw_m6 20 rfl) rfl
theorem q1233 : (Jvm.Cond.instanceMethod ({ cls := "HashHallModel", name := "take", desc := "(III)Z" } : Jvm.MethodName)) ∈ lw_all := lw_g (lw_at lw_m6 25 rfl) rfl
theorem q1234 : (Jvm.Cond.selects "HashHallModel" ({ cls := "HashHallModel", name := "take", desc := "(III)Z" } : Jvm.MethodName) ({ cls := "HashHallModel", name := "take", desc := "(III)Z" } : Jvm.MethodName)) ∈ lw_all := lw_g (lw_at lw_m6 26 rfl) rfl
theorem q1235 : (Jvm.Cond.code ({ cls := "HashHallModel", name := "take", desc := "(III)Z" } : Jvm.MethodName) prog_3_method_9_code (5 : Nat) (Option.some Jvm.ClassFile.FieldType.boolean)) ∈ lw_all := lw_g (lw_at lw_m6 27 rfl) rfl
theorem q1237 : (Jvm.Cond.instanceMethod ({ cls := "HashHallModel", name := "has", desc := "(III)Z" } : Jvm.MethodName)) ∈ lw_all := lw_g (lw_at lw_m6 29 rfl) rfl
theorem q1238 : (Jvm.Cond.selects "HashHallModel" ({ cls := "HashHallModel", name := "has", desc := "(III)Z" } : Jvm.MethodName) ({ cls := "HashHallModel", name := "has", desc := "(III)Z" } : Jvm.MethodName)) ∈ lw_all := lw_g (lw_at lw_m6 30 rfl) rfl
theorem q1239 : (Jvm.Cond.code ({ cls := "HashHallModel", name := "has", desc := "(III)Z" } : Jvm.MethodName) prog_3_method_10_code (5 : Nat) (Option.some Jvm.ClassFile.FieldType.boolean)) ∈ lw_all := lw_g (lw_at lw_m6 31 rfl) rfl
theorem q1241 : (Jvm.Cond.instanceMethod ({ cls := "HashHallModel", name := "size", desc := "(I)I" } : Jvm.MethodName)) ∈ lw_all := lw_g (lw_at lw_m6 33 rfl) rfl
theorem q1242 : (Jvm.Cond.selects "HashHallModel" ({ cls := "HashHallModel", name := "size", desc := "(I)I" } : Jvm.MethodName) ({ cls := "HashHallModel", name := "size", desc := "(I)I" } : Jvm.MethodName)) ∈ lw_all := lw_g (lw_at lw_m6 34 rfl) rfl
theorem q1243 : (Jvm.Cond.code ({ cls := "HashHallModel", name := "size", desc := "(I)I" } : Jvm.MethodName) prog_3_method_11_code (2 : Nat) (Option.some Jvm.ClassFile.FieldType.int)) ∈ lw_all := lw_g (lw_at lw_m6 35 rfl) rfl
theorem q1245 : (Jvm.Cond.instanceMethod ({ cls := "HashHallModel", name := "clear", desc := "(I)I" } : Jvm.MethodName)) ∈ lw_all := lw_g (lw_at lw_m6 37 rfl) rfl
theorem q1246 : (Jvm.Cond.selects "HashHallModel" ({ cls := "HashHallModel", name := "clear", desc := "(I)I" } : Jvm.MethodName) ({ cls := "HashHallModel", name := "clear", desc := "(I)I" } : Jvm.MethodName)) ∈ lw_all := lw_g (lw_at lw_m6 38 rfl) rfl
theorem q1247 : (Jvm.Cond.code ({ cls := "HashHallModel", name := "clear", desc := "(I)I" } : Jvm.MethodName) prog_3_method_12_code (3 : Nat) (Option.some Jvm.ClassFile.FieldType.int)) ∈ lw_all := lw_g (lw_at lw_m6 39 rfl) rfl
theorem q1248 : (Jvm.Cond.methodLink "HashHallModel" (57 : Nat) ({ cls := "HashHallModel$Pairs", name := "clear", desc := "()V" } : Jvm.MethodName)) ∈ lw_all := lw_g (lw_at lw_m6 40 rfl) rfl
theorem q1253 : (Jvm.Cond.instanceMethod ({ cls := "HashHallModel", name := "pour", desc := "(II)I" } : Jvm.MethodName)) ∈ lw_all := lw_g (lw_at lw_m6 45 rfl) rfl
theorem q1254 : (Jvm.Cond.selects "HashHallModel" ({ cls := "HashHallModel", name := "pour", desc := "(II)I" } : Jvm.MethodName) ({ cls := "HashHallModel", name := "pour", desc := "(II)I" } : Jvm.MethodName)) ∈ lw_all := lw_g (lw_at lw_m6 46 rfl) rfl
theorem q1255 : (Jvm.Cond.code ({ cls := "HashHallModel", name := "pour", desc := "(II)I" } : Jvm.MethodName) prog_3_method_13_code (4 : Nat) (Option.some Jvm.ClassFile.FieldType.int)) ∈ lw_all := lw_g (lw_at lw_m6 47 rfl) rfl
theorem q1256 : (Jvm.Cond.methodLink "HashHallModel" (66 : Nat) ({ cls := "HashHallModel", name := "put", desc := "(III)J" } : Jvm.MethodName)) ∈ lw_all := lw_g (lw_at lw_m6 48 rfl) rfl
theorem q1258 : (Jvm.Cond.instanceMethod ({ cls := "HashHallModel", name := "entry", desc := "(III)J" } : Jvm.MethodName)) ∈ lw_all := lw_g (lw_at lw_m6 50 rfl) rfl
theorem q1259 : (Jvm.Cond.selects "HashHallModel" ({ cls := "HashHallModel", name := "entry", desc := "(III)J" } : Jvm.MethodName) ({ cls := "HashHallModel", name := "entry", desc := "(III)J" } : Jvm.MethodName)) ∈ lw_all := lw_g (lw_at lw_m6 51 rfl) rfl
theorem q1260 : (Jvm.Cond.code ({ cls := "HashHallModel", name := "entry", desc := "(III)J" } : Jvm.MethodName) prog_3_method_14_code (6 : Nat) (Option.some Jvm.ClassFile.FieldType.long)) ∈ lw_all := lw_g (lw_at lw_m6 52 rfl) rfl
theorem q1262 : (Jvm.Cond.instanceMethod ({ cls := "HashHallModel", name := "sum", desc := "(I)J" } : Jvm.MethodName)) ∈ lw_all := lw_g (lw_at lw_m6 54 rfl) rfl
theorem q1263 : (Jvm.Cond.selects "HashHallModel" ({ cls := "HashHallModel", name := "sum", desc := "(I)J" } : Jvm.MethodName) ({ cls := "HashHallModel", name := "sum", desc := "(I)J" } : Jvm.MethodName)) ∈ lw_all := lw_g (lw_at lw_m6 55 rfl) rfl
theorem q1264 : (Jvm.Cond.code ({ cls := "HashHallModel", name := "sum", desc := "(I)J" } : Jvm.MethodName) prog_3_method_15_code (5 : Nat) (Option.some Jvm.ClassFile.FieldType.long)) ∈ lw_all := lw_g (lw_at lw_m6 56 rfl) rfl
theorem q1265 : (Jvm.Cond.constantLong "HashHallModel" (73 : Nat) (31 : Int64)) ∈ lw_all := lw_g (lw_at lw_m6 57 rfl) rfl
theorem q1267 : (Jvm.Cond.instanceMethod ({ cls := "HashHallModel", name := "sweep", desc := "(III)I" } : Jvm.MethodName)) ∈ lw_all := lw_g (lw_at lw_m6 59 rfl) rfl
theorem q1268 : (Jvm.Cond.selects "HashHallModel" ({ cls := "HashHallModel", name := "sweep", desc := "(III)I" } : Jvm.MethodName) ({ cls := "HashHallModel", name := "sweep", desc := "(III)I" } : Jvm.MethodName)) ∈ lw_all := lw_g (lw_at lw_m6 60 rfl) rfl
theorem q1269 : (Jvm.Cond.code ({ cls := "HashHallModel", name := "sweep", desc := "(III)I" } : Jvm.MethodName) prog_3_method_16_code (7 : Nat) (Option.some Jvm.ClassFile.FieldType.int)) ∈ lw_all := lw_g (lw_at lw_m6 61 rfl) rfl
theorem q1270 : (Jvm.Cond.methodLink "HashHallModel" (75 : Nat) ({ cls := "java/lang/Math", name := "floorMod", desc := "(II)I" } : Jvm.MethodName)) ∈ lw_all := lw_g (lw_at lw_m6 62 rfl) rfl
theorem q1272 : (Jvm.Cond.instanceMethod ({ cls := "HashHallModel", name := "raise", desc := "(II)I" } : Jvm.MethodName)) ∈ lw_all := lw_g (lw_at lw_m6 64 rfl) rfl
theorem q1273 : (Jvm.Cond.selects "HashHallModel" ({ cls := "HashHallModel", name := "raise", desc := "(II)I" } : Jvm.MethodName) ({ cls := "HashHallModel", name := "raise", desc := "(II)I" } : Jvm.MethodName)) ∈ lw_all := lw_g (lw_at lw_m6 65 rfl) rfl
theorem q1274 : (Jvm.Cond.code ({ cls := "HashHallModel", name := "raise", desc := "(II)I" } : Jvm.MethodName) prog_3_method_17_code (4 : Nat) (Option.some Jvm.ClassFile.FieldType.int)) ∈ lw_all := lw_g (lw_at lw_m6 66 rfl) rfl
theorem q1276 : (Jvm.Cond.instanceMethod ({ cls := "HashHallModel", name := "same", desc := "(II)Z" } : Jvm.MethodName)) ∈ lw_all := lw_g (lw_at lw_m6 68 rfl) rfl
theorem q1277 : (Jvm.Cond.selects "HashHallModel" ({ cls := "HashHallModel", name := "same", desc := "(II)Z" } : Jvm.MethodName) ({ cls := "HashHallModel", name := "same", desc := "(II)Z" } : Jvm.MethodName)) ∈ lw_all := lw_g (lw_at lw_m6 69 rfl) rfl
theorem q1278 : (Jvm.Cond.code ({ cls := "HashHallModel", name := "same", desc := "(II)Z" } : Jvm.MethodName) prog_3_method_18_code (6 : Nat) (Option.some Jvm.ClassFile.FieldType.boolean)) ∈ lw_all := lw_g (lw_at lw_m6 70 rfl) rfl
theorem q1280 : (Jvm.Cond.instanceMethod ({ cls := "HashHallModel", name := "fill", desc := "(IIII)I" } : Jvm.MethodName)) ∈ lw_all := lw_g (lw_at lw_m6 72 rfl) rfl
theorem q1281 : (Jvm.Cond.selects "HashHallModel" ({ cls := "HashHallModel", name := "fill", desc := "(IIII)I" } : Jvm.MethodName) ({ cls := "HashHallModel", name := "fill", desc := "(IIII)I" } : Jvm.MethodName)) ∈ lw_all := lw_g (lw_at lw_m6 73 rfl) rfl
theorem q1282 : (Jvm.Cond.code ({ cls := "HashHallModel", name := "fill", desc := "(IIII)I" } : Jvm.MethodName) prog_3_method_19_code (6 : Nat) (Option.some Jvm.ClassFile.FieldType.int)) ∈ lw_all := lw_g (lw_at lw_m6 74 rfl) rfl
theorem q1298 : (Jvm.Cond.castable "HashHallModel" "java/lang/Object") ∈ lw_tbl := lw_at lw_m6 90 rfl
theorem in_X1 : ∀ w ∈ wsX10, w ∈ lw_all := lw_in wsX10 [1150] (by decide +kernel) (by decide +kernel)
