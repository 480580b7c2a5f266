set_option maxRecDepth 100000
def RX0 : String := "HashHall"
def TX0 : u_T := fun k => match k with
  | 0 => ("HashHall", "plain", "Ljava/util/HashMap;", true)
  | 1 => ("HashHall", "coming", "Ljava/util/LinkedHashMap;", true)
  | _ => ("HashHall", "used", "Ljava/util/LinkedHashMap;", true)
def tyX0 : Nat → FieldType := fun k => match k with
  | 0 => .object "java/util/HashMap"
  | 1 => .object "java/util/LinkedHashMap"
  | _ => .object "java/util/LinkedHashMap"
abbrev wsX00 : List Cond := u_ws RX0 TX0 3
theorem nmX0 : ∀ a, a < 3 → ∀ b, b < 3 → a ≠ b → (TX0 a).2.1 ≠ (TX0 b).2.1 := by decide +kernel
theorem tyX0_ok : ∀ k, k < 3 → parseFieldDescriptor (TX0 k).2.2.1 = some (tyX0 k) := by decide +kernel
abbrev cX0_init : ByteArray := prog_1_method_1_code
def yX0_init : MethodName := ⟨RX0, "<init>", "()V"⟩
theorem dX0_init_0 : decode cX0_init 0 = .ok (.aload_n 0, 1) := by decide +kernel
theorem dX0_init_1 : decode cX0_init 1 = .ok (.invokespecial 1, 3) := by decide +kernel
theorem dX0_init_4 : decode cX0_init 4 = .ok (.aload_n 0, 1) := by decide +kernel
theorem dX0_init_5 : decode cX0_init 5 = .ok (.new 7, 3) := by decide +kernel
theorem dX0_init_8 : decode cX0_init 8 = .ok (.dup, 1) := by decide +kernel
theorem dX0_init_9 : decode cX0_init 9 = .ok (.invokespecial 9, 3) := by decide +kernel
theorem dX0_init_12 : decode cX0_init 12 = .ok (.putfield 10, 3) := by decide +kernel
theorem dX0_init_15 : decode cX0_init 15 = .ok (.aload_n 0, 1) := by decide +kernel
theorem dX0_init_16 : decode cX0_init 16 = .ok (.new 16, 3) := by decide +kernel
theorem dX0_init_19 : decode cX0_init 19 = .ok (.dup, 1) := by decide +kernel
theorem dX0_init_20 : decode cX0_init 20 = .ok (.invokespecial 18, 3) := by decide +kernel
theorem dX0_init_23 : decode cX0_init 23 = .ok (.putfield 19, 3) := by decide +kernel
theorem dX0_init_26 : decode cX0_init 26 = .ok (.aload_n 0, 1) := by decide +kernel
theorem dX0_init_27 : decode cX0_init 27 = .ok (.new 16, 3) := by decide +kernel
theorem dX0_init_30 : decode cX0_init 30 = .ok (.dup, 1) := by decide +kernel
theorem dX0_init_31 : decode cX0_init 31 = .ok (.bipush 16, 2) := by decide +kernel
theorem dX0_init_33 : decode cX0_init 33 = .ok (.ldc 23, 2) := by decide +kernel
theorem dX0_init_35 : decode cX0_init 35 = .ok (.iconst 1, 1) := by decide +kernel
theorem dX0_init_36 : decode cX0_init 36 = .ok (.invokespecial 24, 3) := by decide +kernel
theorem dX0_init_39 : decode cX0_init 39 = .ok (.putfield 27, 3) := by decide +kernel
theorem dX0_init_42 : decode cX0_init 42 = .ok (.return_, 1) := by decide +kernel
abbrev cX0_put : ByteArray := prog_1_method_4_code
def yX0_put : MethodName := ⟨RX0, "put", "(III)J"⟩
theorem dX0_put_0 : decode cX0_put 0 = .ok (.aload_n 0, 1) := by decide +kernel
theorem dX0_put_1 : decode cX0_put 1 = .ok (.iload_n 1, 1) := by decide +kernel
theorem dX0_put_2 : decode cX0_put 2 = .ok (.invokevirtual 38, 3) := by decide +kernel
theorem dX0_put_5 : decode cX0_put 5 = .ok (.astore 4, 2) := by decide +kernel
theorem dX0_put_7 : decode cX0_put 7 = .ok (.aload 4, 2) := by decide +kernel
theorem dX0_put_9 : decode cX0_put 9 = .ok (.ifnonnull 9, 3) := by decide +kernel
theorem dX0_put_12 : decode cX0_put 12 = .ok (.ldc2_w 42, 3) := by decide +kernel
theorem dX0_put_15 : decode cX0_put 15 = .ok (.goto 22, 3) := by decide +kernel
theorem dX0_put_18 : decode cX0_put 18 = .ok (.aload 4, 2) := by decide +kernel
theorem dX0_put_20 : decode cX0_put 20 = .ok (.iload_n 2, 1) := by decide +kernel
theorem dX0_put_21 : decode cX0_put 21 = .ok (.invokestatic 44, 3) := by decide +kernel
theorem dX0_put_24 : decode cX0_put 24 = .ok (.iload_n 3, 1) := by decide +kernel
theorem dX0_put_25 : decode cX0_put 25 = .ok (.invokestatic 44, 3) := by decide +kernel
theorem dX0_put_28 : decode cX0_put 28 = .ok (.invokevirtual 48, 3) := by decide +kernel
theorem dX0_put_31 : decode cX0_put 31 = .ok (.checkcast 33, 3) := by decide +kernel
theorem dX0_put_34 : decode cX0_put 34 = .ok (.invokestatic 52, 3) := by decide +kernel
theorem dX0_put_37 : decode cX0_put 37 = .ok (.lreturn, 1) := by decide +kernel
abbrev cX0_map : ByteArray := prog_1_method_2_code
def yX0_map : MethodName := ⟨RX0, "map", "(I)Ljava/util/HashMap;"⟩
theorem dX0_map_0 : decode cX0_map 0 = .ok (.iload_n 1, 1) := by decide +kernel
theorem dX0_map_1 : decode cX0_map 1 = .ok (.tableswitch 42 0 2 #[27, 32, 37], 27) := by decide +kernel
theorem dX0_map_28 : decode cX0_map 28 = .ok (.aload_n 0, 1) := by decide +kernel
theorem dX0_map_29 : decode cX0_map 29 = .ok (.getfield 10, 3) := by decide +kernel
theorem dX0_map_32 : decode cX0_map 32 = .ok (.areturn, 1) := by decide +kernel
theorem dX0_map_33 : decode cX0_map 33 = .ok (.aload_n 0, 1) := by decide +kernel
theorem dX0_map_34 : decode cX0_map 34 = .ok (.getfield 19, 3) := by decide +kernel
theorem dX0_map_37 : decode cX0_map 37 = .ok (.areturn, 1) := by decide +kernel
theorem dX0_map_38 : decode cX0_map 38 = .ok (.aload_n 0, 1) := by decide +kernel
theorem dX0_map_39 : decode cX0_map 39 = .ok (.getfield 27, 3) := by decide +kernel
theorem dX0_map_42 : decode cX0_map 42 = .ok (.areturn, 1) := by decide +kernel
theorem dX0_map_43 : decode cX0_map 43 = .ok (.aconst_null, 1) := by decide +kernel
theorem dX0_map_44 : decode cX0_map 44 = .ok (.areturn, 1) := by decide +kernel
abbrev cX0_told : ByteArray := prog_1_method_3_code
def yX0_told : MethodName := ⟨RX0, "told", "(Ljava/lang/Integer;)J"⟩
theorem dX0_told_0 : decode cX0_told 0 = .ok (.aload_n 0, 1) := by decide +kernel
theorem dX0_told_1 : decode cX0_told 1 = .ok (.ifnonnull 9, 3) := by decide +kernel
theorem dX0_told_4 : decode cX0_told 4 = .ok (.ldc2_w 30, 3) := by decide +kernel
theorem dX0_told_7 : decode cX0_told 7 = .ok (.goto 8, 3) := by decide +kernel
theorem dX0_told_10 : decode cX0_told 10 = .ok (.aload_n 0, 1) := by decide +kernel
theorem dX0_told_11 : decode cX0_told 11 = .ok (.invokevirtual 32, 3) := by decide +kernel
theorem dX0_told_14 : decode cX0_told 14 = .ok (.i2l, 1) := by decide +kernel
theorem dX0_told_15 : decode cX0_told 15 = .ok (.lreturn, 1) := by decide +kernel
abbrev cX0_add : ByteArray := prog_1_method_5_code
def yX0_add : MethodName := ⟨RX0, "add", "(III)J"⟩
theorem dX0_add_0 : decode cX0_add 0 = .ok (.aload_n 0, 1) := by decide +kernel
theorem dX0_add_1 : decode cX0_add 1 = .ok (.iload_n 1, 1) := by decide +kernel
theorem dX0_add_2 : decode cX0_add 2 = .ok (.invokevirtual 38, 3) := by decide +kernel
theorem dX0_add_5 : decode cX0_add 5 = .ok (.astore 4, 2) := by decide +kernel
theorem dX0_add_7 : decode cX0_add 7 = .ok (.aload 4, 2) := by decide +kernel
theorem dX0_add_9 : decode cX0_add 9 = .ok (.ifnonnull 9, 3) := by decide +kernel
theorem dX0_add_12 : decode cX0_add 12 = .ok (.ldc2_w 42, 3) := by decide +kernel
theorem dX0_add_15 : decode cX0_add 15 = .ok (.goto 22, 3) := by decide +kernel
theorem dX0_add_18 : decode cX0_add 18 = .ok (.aload 4, 2) := by decide +kernel
theorem dX0_add_20 : decode cX0_add 20 = .ok (.iload_n 2, 1) := by decide +kernel
theorem dX0_add_21 : decode cX0_add 21 = .ok (.invokestatic 44, 3) := by decide +kernel
theorem dX0_add_24 : decode cX0_add 24 = .ok (.iload_n 3, 1) := by decide +kernel
theorem dX0_add_25 : decode cX0_add 25 = .ok (.invokestatic 44, 3) := by decide +kernel
theorem dX0_add_28 : decode cX0_add 28 = .ok (.invokevirtual 56, 3) := by decide +kernel
theorem dX0_add_31 : decode cX0_add 31 = .ok (.checkcast 33, 3) := by decide +kernel
theorem dX0_add_34 : decode cX0_add 34 = .ok (.invokestatic 52, 3) := by decide +kernel
theorem dX0_add_37 : decode cX0_add 37 = .ok (.lreturn, 1) := by decide +kernel
abbrev cX0_get : ByteArray := prog_1_method_6_code
def yX0_get : MethodName := ⟨RX0, "get", "(II)J"⟩
theorem dX0_get_0 : decode cX0_get 0 = .ok (.aload_n 0, 1) := by decide +kernel
theorem dX0_get_1 : decode cX0_get 1 = .ok (.iload_n 1, 1) := by decide +kernel
theorem dX0_get_2 : decode cX0_get 2 = .ok (.invokevirtual 38, 3) := by decide +kernel
theorem dX0_get_5 : decode cX0_get 5 = .ok (.astore_n 3, 1) := by decide +kernel
theorem dX0_get_6 : decode cX0_get 6 = .ok (.aload_n 3, 1) := by decide +kernel
theorem dX0_get_7 : decode cX0_get 7 = .ok (.ifnonnull 9, 3) := by decide +kernel
theorem dX0_get_10 : decode cX0_get 10 = .ok (.ldc2_w 42, 3) := by decide +kernel
theorem dX0_get_13 : decode cX0_get 13 = .ok (.goto 17, 3) := by decide +kernel
theorem dX0_get_16 : decode cX0_get 16 = .ok (.aload_n 3, 1) := by decide +kernel
theorem dX0_get_17 : decode cX0_get 17 = .ok (.iload_n 2, 1) := by decide +kernel
theorem dX0_get_18 : decode cX0_get 18 = .ok (.invokestatic 44, 3) := by decide +kernel
theorem dX0_get_21 : decode cX0_get 21 = .ok (.invokevirtual 59, 3) := by decide +kernel
theorem dX0_get_24 : decode cX0_get 24 = .ok (.checkcast 33, 3) := by decide +kernel
theorem dX0_get_27 : decode cX0_get 27 = .ok (.invokestatic 52, 3) := by decide +kernel
theorem dX0_get_30 : decode cX0_get 30 = .ok (.lreturn, 1) := by decide +kernel
abbrev cX0_give : ByteArray := prog_1_method_7_code
def yX0_give : MethodName := ⟨RX0, "give", "(III)J"⟩
theorem dX0_give_0 : decode cX0_give 0 = .ok (.aload_n 0, 1) := by decide +kernel
theorem dX0_give_1 : decode cX0_give 1 = .ok (.iload_n 1, 1) := by decide +kernel
theorem dX0_give_2 : decode cX0_give 2 = .ok (.invokevirtual 38, 3) := by decide +kernel
theorem dX0_give_5 : decode cX0_give 5 = .ok (.astore 4, 2) := by decide +kernel
theorem dX0_give_7 : decode cX0_give 7 = .ok (.aload 4, 2) := by decide +kernel
theorem dX0_give_9 : decode cX0_give 9 = .ok (.ifnonnull 9, 3) := by decide +kernel
theorem dX0_give_12 : decode cX0_give 12 = .ok (.ldc2_w 42, 3) := by decide +kernel
theorem dX0_give_15 : decode cX0_give 15 = .ok (.goto 22, 3) := by decide +kernel
theorem dX0_give_18 : decode cX0_give 18 = .ok (.aload 4, 2) := by decide +kernel
theorem dX0_give_20 : decode cX0_give 20 = .ok (.iload_n 2, 1) := by decide +kernel
theorem dX0_give_21 : decode cX0_give 21 = .ok (.invokestatic 44, 3) := by decide +kernel
theorem dX0_give_24 : decode cX0_give 24 = .ok (.iload_n 3, 1) := by decide +kernel
theorem dX0_give_25 : decode cX0_give 25 = .ok (.invokestatic 44, 3) := by decide +kernel
theorem dX0_give_28 : decode cX0_give 28 = .ok (.invokevirtual 63, 3) := by decide +kernel
theorem dX0_give_31 : decode cX0_give 31 = .ok (.checkcast 33, 3) := by decide +kernel
theorem dX0_give_34 : decode cX0_give 34 = .ok (.invokestatic 52, 3) := by decide +kernel
theorem dX0_give_37 : decode cX0_give 37 = .ok (.lreturn, 1) := by decide +kernel
abbrev cX0_remove : ByteArray := prog_1_method_8_code
def yX0_remove : MethodName := ⟨RX0, "remove", "(II)J"⟩
theorem dX0_remove_0 : decode cX0_remove 0 = .ok (.aload_n 0, 1) := by decide +kernel
theorem dX0_remove_1 : decode cX0_remove 1 = .ok (.iload_n 1, 1) := by decide +kernel
theorem dX0_remove_2 : decode cX0_remove 2 = .ok (.invokevirtual 38, 3) := by decide +kernel
theorem dX0_remove_5 : decode cX0_remove 5 = .ok (.astore_n 3, 1) := by decide +kernel
theorem dX0_remove_6 : decode cX0_remove 6 = .ok (.aload_n 3, 1) := by decide +kernel
theorem dX0_remove_7 : decode cX0_remove 7 = .ok (.ifnonnull 9, 3) := by decide +kernel
theorem dX0_remove_10 : decode cX0_remove 10 = .ok (.ldc2_w 42, 3) := by decide +kernel
theorem dX0_remove_13 : decode cX0_remove 13 = .ok (.goto 17, 3) := by decide +kernel
theorem dX0_remove_16 : decode cX0_remove 16 = .ok (.aload_n 3, 1) := by decide +kernel
theorem dX0_remove_17 : decode cX0_remove 17 = .ok (.iload_n 2, 1) := by decide +kernel
theorem dX0_remove_18 : decode cX0_remove 18 = .ok (.invokestatic 44, 3) := by decide +kernel
theorem dX0_remove_21 : decode cX0_remove 21 = .ok (.invokevirtual 66, 3) := by decide +kernel
theorem dX0_remove_24 : decode cX0_remove 24 = .ok (.checkcast 33, 3) := by decide +kernel
theorem dX0_remove_27 : decode cX0_remove 27 = .ok (.invokestatic 52, 3) := by decide +kernel
theorem dX0_remove_30 : decode cX0_remove 30 = .ok (.lreturn, 1) := by decide +kernel
abbrev cX0_take : ByteArray := prog_1_method_9_code
def yX0_take : MethodName := ⟨RX0, "take", "(III)Z"⟩
theorem dX0_take_0 : decode cX0_take 0 = .ok (.aload_n 0, 1) := by decide +kernel
theorem dX0_take_1 : decode cX0_take 1 = .ok (.iload_n 1, 1) := by decide +kernel
theorem dX0_take_2 : decode cX0_take 2 = .ok (.invokevirtual 38, 3) := by decide +kernel
theorem dX0_take_5 : decode cX0_take 5 = .ok (.astore 4, 2) := by decide +kernel
theorem dX0_take_7 : decode cX0_take 7 = .ok (.aload 4, 2) := by decide +kernel
theorem dX0_take_9 : decode cX0_take 9 = .ok (.ifnull 23, 3) := by decide +kernel
theorem dX0_take_12 : decode cX0_take 12 = .ok (.aload 4, 2) := by decide +kernel
theorem dX0_take_14 : decode cX0_take 14 = .ok (.iload_n 2, 1) := by decide +kernel
theorem dX0_take_15 : decode cX0_take 15 = .ok (.invokestatic 44, 3) := by decide +kernel
theorem dX0_take_18 : decode cX0_take 18 = .ok (.iload_n 3, 1) := by decide +kernel
theorem dX0_take_19 : decode cX0_take 19 = .ok (.invokestatic 44, 3) := by decide +kernel
theorem dX0_take_22 : decode cX0_take 22 = .ok (.invokevirtual 69, 3) := by decide +kernel
theorem dX0_take_25 : decode cX0_take 25 = .ok (.ifCond .eq 7, 3) := by decide +kernel
theorem dX0_take_28 : decode cX0_take 28 = .ok (.iconst 1, 1) := by decide +kernel
theorem dX0_take_29 : decode cX0_take 29 = .ok (.goto 4, 3) := by decide +kernel
theorem dX0_take_32 : decode cX0_take 32 = .ok (.iconst 0, 1) := by decide +kernel
theorem dX0_take_33 : decode cX0_take 33 = .ok (.ireturn, 1) := by decide +kernel
abbrev cX0_has : ByteArray := prog_1_method_10_code
def yX0_has : MethodName := ⟨RX0, "has", "(III)Z"⟩
theorem dX0_has_0 : decode cX0_has 0 = .ok (.aload_n 0, 1) := by decide +kernel
theorem dX0_has_1 : decode cX0_has 1 = .ok (.iload_n 1, 1) := by decide +kernel
theorem dX0_has_2 : decode cX0_has 2 = .ok (.invokevirtual 38, 3) := by decide +kernel
theorem dX0_has_5 : decode cX0_has 5 = .ok (.astore 4, 2) := by decide +kernel
theorem dX0_has_7 : decode cX0_has 7 = .ok (.aload 4, 2) := by decide +kernel
theorem dX0_has_9 : decode cX0_has 9 = .ok (.ifnonnull 5, 3) := by decide +kernel
theorem dX0_has_12 : decode cX0_has 12 = .ok (.iconst 0, 1) := by decide +kernel
theorem dX0_has_13 : decode cX0_has 13 = .ok (.ireturn, 1) := by decide +kernel
theorem dX0_has_14 : decode cX0_has 14 = .ok (.iload_n 3, 1) := by decide +kernel
theorem dX0_has_15 : decode cX0_has 15 = .ok (.invokestatic 44, 3) := by decide +kernel
theorem dX0_has_18 : decode cX0_has 18 = .ok (.astore 5, 2) := by decide +kernel
theorem dX0_has_20 : decode cX0_has 20 = .ok (.iload_n 2, 1) := by decide +kernel
theorem dX0_has_21 : decode cX0_has 21 = .ok (.ifCond .ne 13, 3) := by decide +kernel
theorem dX0_has_24 : decode cX0_has 24 = .ok (.aload 4, 2) := by decide +kernel
theorem dX0_has_26 : decode cX0_has 26 = .ok (.aload 5, 2) := by decide +kernel
theorem dX0_has_28 : decode cX0_has 28 = .ok (.invokevirtual 72, 3) := by decide +kernel
theorem dX0_has_31 : decode cX0_has 31 = .ok (.ifCond .ne 18, 3) := by decide +kernel
theorem dX0_has_34 : decode cX0_has 34 = .ok (.iload_n 2, 1) := by decide +kernel
theorem dX0_has_35 : decode cX0_has 35 = .ok (.iconst 1, 1) := by decide +kernel
theorem dX0_has_36 : decode cX0_has 36 = .ok (.if_icmp .ne 17, 3) := by decide +kernel
theorem dX0_has_39 : decode cX0_has 39 = .ok (.aload 4, 2) := by decide +kernel
theorem dX0_has_41 : decode cX0_has 41 = .ok (.aload 5, 2) := by decide +kernel
theorem dX0_has_43 : decode cX0_has 43 = .ok (.invokevirtual 76, 3) := by decide +kernel
theorem dX0_has_46 : decode cX0_has 46 = .ok (.ifCond .eq 7, 3) := by decide +kernel
theorem dX0_has_49 : decode cX0_has 49 = .ok (.iconst 1, 1) := by decide +kernel
theorem dX0_has_50 : decode cX0_has 50 = .ok (.goto 4, 3) := by decide +kernel
theorem dX0_has_53 : decode cX0_has 53 = .ok (.iconst 0, 1) := by decide +kernel
theorem dX0_has_54 : decode cX0_has 54 = .ok (.ireturn, 1) := by decide +kernel
abbrev cX0_size : ByteArray := prog_1_method_11_code
def yX0_size : MethodName := ⟨RX0, "size", "(I)I"⟩
theorem dX0_size_0 : decode cX0_size 0 = .ok (.aload_n 0, 1) := by decide +kernel
theorem dX0_size_1 : decode cX0_size 1 = .ok (.iload_n 1, 1) := by decide +kernel
theorem dX0_size_2 : decode cX0_size 2 = .ok (.invokevirtual 38, 3) := by decide +kernel
theorem dX0_size_5 : decode cX0_size 5 = .ok (.astore_n 2, 1) := by decide +kernel
theorem dX0_size_6 : decode cX0_size 6 = .ok (.aload_n 2, 1) := by decide +kernel
theorem dX0_size_7 : decode cX0_size 7 = .ok (.ifnonnull 7, 3) := by decide +kernel
theorem dX0_size_10 : decode cX0_size 10 = .ok (.iconst (-1), 1) := by decide +kernel
theorem dX0_size_11 : decode cX0_size 11 = .ok (.goto 7, 3) := by decide +kernel
theorem dX0_size_14 : decode cX0_size 14 = .ok (.aload_n 2, 1) := by decide +kernel
theorem dX0_size_15 : decode cX0_size 15 = .ok (.invokevirtual 79, 3) := by decide +kernel
theorem dX0_size_18 : decode cX0_size 18 = .ok (.ireturn, 1) := by decide +kernel
abbrev cX0_clear : ByteArray := prog_1_method_12_code
def yX0_clear : MethodName := ⟨RX0, "clear", "(I)I"⟩
theorem dX0_clear_0 : decode cX0_clear 0 = .ok (.aload_n 0, 1) := by decide +kernel
theorem dX0_clear_1 : decode cX0_clear 1 = .ok (.iload_n 1, 1) := by decide +kernel
theorem dX0_clear_2 : decode cX0_clear 2 = .ok (.invokevirtual 38, 3) := by decide +kernel
theorem dX0_clear_5 : decode cX0_clear 5 = .ok (.astore_n 2, 1) := by decide +kernel
theorem dX0_clear_6 : decode cX0_clear 6 = .ok (.aload_n 2, 1) := by decide +kernel
theorem dX0_clear_7 : decode cX0_clear 7 = .ok (.ifnonnull 5, 3) := by decide +kernel
theorem dX0_clear_10 : decode cX0_clear 10 = .ok (.iconst (-1), 1) := by decide +kernel
theorem dX0_clear_11 : decode cX0_clear 11 = .ok (.ireturn, 1) := by decide +kernel
theorem dX0_clear_12 : decode cX0_clear 12 = .ok (.aload_n 2, 1) := by decide +kernel
theorem dX0_clear_13 : decode cX0_clear 13 = .ok (.invokevirtual 79, 3) := by decide +kernel
theorem dX0_clear_16 : decode cX0_clear 16 = .ok (.istore_n 3, 1) := by decide +kernel
theorem dX0_clear_17 : decode cX0_clear 17 = .ok (.aload_n 2, 1) := by decide +kernel
theorem dX0_clear_18 : decode cX0_clear 18 = .ok (.invokevirtual 82, 3) := by decide +kernel
theorem dX0_clear_21 : decode cX0_clear 21 = .ok (.iload_n 3, 1) := by decide +kernel
theorem dX0_clear_22 : decode cX0_clear 22 = .ok (.ireturn, 1) := by decide +kernel
abbrev cX0_pour : ByteArray := prog_1_method_14_code
def yX0_pour : MethodName := ⟨RX0, "pour", "(II)I"⟩
theorem dX0_pour_0 : decode cX0_pour 0 = .ok (.aload_n 0, 1) := by decide +kernel
theorem dX0_pour_1 : decode cX0_pour 1 = .ok (.iload_n 1, 1) := by decide +kernel
theorem dX0_pour_2 : decode cX0_pour 2 = .ok (.invokevirtual 38, 3) := by decide +kernel
theorem dX0_pour_5 : decode cX0_pour 5 = .ok (.astore_n 3, 1) := by decide +kernel
theorem dX0_pour_6 : decode cX0_pour 6 = .ok (.aload_n 0, 1) := by decide +kernel
theorem dX0_pour_7 : decode cX0_pour 7 = .ok (.iload_n 2, 1) := by decide +kernel
theorem dX0_pour_8 : decode cX0_pour 8 = .ok (.invokevirtual 38, 3) := by decide +kernel
theorem dX0_pour_11 : decode cX0_pour 11 = .ok (.astore 4, 2) := by decide +kernel
theorem dX0_pour_13 : decode cX0_pour 13 = .ok (.aload_n 3, 1) := by decide +kernel
theorem dX0_pour_14 : decode cX0_pour 14 = .ok (.ifnull 30, 3) := by decide +kernel
theorem dX0_pour_17 : decode cX0_pour 17 = .ok (.aload 4, 2) := by decide +kernel
theorem dX0_pour_19 : decode cX0_pour 19 = .ok (.ifnull 25, 3) := by decide +kernel
theorem dX0_pour_22 : decode cX0_pour 22 = .ok (.aload_n 3, 1) := by decide +kernel
theorem dX0_pour_23 : decode cX0_pour 23 = .ok (.aload 4, 2) := by decide +kernel
theorem dX0_pour_25 : decode cX0_pour 25 = .ok (.if_acmp .eq 19, 3) := by decide +kernel
theorem dX0_pour_28 : decode cX0_pour 28 = .ok (.aload_n 3, 1) := by decide +kernel
theorem dX0_pour_29 : decode cX0_pour 29 = .ok (.invokevirtual 79, 3) := by decide +kernel
theorem dX0_pour_32 : decode cX0_pour 32 = .ok (.aload 4, 2) := by decide +kernel
theorem dX0_pour_34 : decode cX0_pour 34 = .ok (.invokevirtual 79, 3) := by decide +kernel
theorem dX0_pour_37 : decode cX0_pour 37 = .ok (.iadd, 1) := by decide +kernel
theorem dX0_pour_38 : decode cX0_pour 38 = .ok (.sipush 1400, 3) := by decide +kernel
theorem dX0_pour_41 : decode cX0_pour 41 = .ok (.if_icmp .le 5, 3) := by decide +kernel
theorem dX0_pour_44 : decode cX0_pour 44 = .ok (.iconst (-1), 1) := by decide +kernel
theorem dX0_pour_45 : decode cX0_pour 45 = .ok (.ireturn, 1) := by decide +kernel
theorem dX0_pour_46 : decode cX0_pour 46 = .ok (.iload_n 1, 1) := by decide +kernel
theorem dX0_pour_47 : decode cX0_pour 47 = .ok (.ifCond .ne 19, 3) := by decide +kernel
theorem dX0_pour_50 : decode cX0_pour 50 = .ok (.iload_n 2, 1) := by decide +kernel
theorem dX0_pour_51 : decode cX0_pour 51 = .ok (.iconst 2, 1) := by decide +kernel
theorem dX0_pour_52 : decode cX0_pour 52 = .ok (.if_icmp .eq 12, 3) := by decide +kernel
theorem dX0_pour_55 : decode cX0_pour 55 = .ok (.aload 4, 2) := by decide +kernel
theorem dX0_pour_57 : decode cX0_pour 57 = .ok (.aload_n 3, 1) := by decide +kernel
theorem dX0_pour_58 : decode cX0_pour 58 = .ok (.invokestatic 105, 3) := by decide +kernel
theorem dX0_pour_61 : decode cX0_pour 61 = .ok (.ifCond .ne 5, 3) := by decide +kernel
theorem dX0_pour_64 : decode cX0_pour 64 = .ok (.iconst (-1), 1) := by decide +kernel
theorem dX0_pour_65 : decode cX0_pour 65 = .ok (.ireturn, 1) := by decide +kernel
theorem dX0_pour_66 : decode cX0_pour 66 = .ok (.aload 4, 2) := by decide +kernel
theorem dX0_pour_68 : decode cX0_pour 68 = .ok (.aload_n 3, 1) := by decide +kernel
theorem dX0_pour_69 : decode cX0_pour 69 = .ok (.invokevirtual 109, 3) := by decide +kernel
theorem dX0_pour_72 : decode cX0_pour 72 = .ok (.aload 4, 2) := by decide +kernel
theorem dX0_pour_74 : decode cX0_pour 74 = .ok (.invokevirtual 79, 3) := by decide +kernel
theorem dX0_pour_77 : decode cX0_pour 77 = .ok (.ireturn, 1) := by decide +kernel
abbrev cX0_hasAll : ByteArray := prog_1_method_13_code
def yX0_hasAll : MethodName := ⟨RX0, "hasAll", "(Ljava/util/HashMap;Ljava/util/HashMap;)Z"⟩
theorem dX0_hasAll_0 : decode cX0_hasAll 0 = .ok (.aload_n 1, 1) := by decide +kernel
theorem dX0_hasAll_1 : decode cX0_hasAll 1 = .ok (.invokevirtual 85, 3) := by decide +kernel
theorem dX0_hasAll_4 : decode cX0_hasAll 4 = .ok (.invokeinterface 89 1, 5) := by decide +kernel
theorem dX0_hasAll_9 : decode cX0_hasAll 9 = .ok (.astore_n 2, 1) := by decide +kernel
theorem dX0_hasAll_10 : decode cX0_hasAll 10 = .ok (.aload_n 2, 1) := by decide +kernel
theorem dX0_hasAll_11 : decode cX0_hasAll 11 = .ok (.invokeinterface 95 1, 5) := by decide +kernel
theorem dX0_hasAll_16 : decode cX0_hasAll 16 = .ok (.ifCond .eq 26, 3) := by decide +kernel
theorem dX0_hasAll_19 : decode cX0_hasAll 19 = .ok (.aload_n 2, 1) := by decide +kernel
theorem dX0_hasAll_20 : decode cX0_hasAll 20 = .ok (.invokeinterface 101 1, 5) := by decide +kernel
theorem dX0_hasAll_25 : decode cX0_hasAll 25 = .ok (.checkcast 33, 3) := by decide +kernel
theorem dX0_hasAll_28 : decode cX0_hasAll 28 = .ok (.astore_n 3, 1) := by decide +kernel
theorem dX0_hasAll_29 : decode cX0_hasAll 29 = .ok (.aload_n 0, 1) := by decide +kernel
theorem dX0_hasAll_30 : decode cX0_hasAll 30 = .ok (.aload_n 3, 1) := by decide +kernel
theorem dX0_hasAll_31 : decode cX0_hasAll 31 = .ok (.invokevirtual 72, 3) := by decide +kernel
theorem dX0_hasAll_34 : decode cX0_hasAll 34 = .ok (.ifCond .ne 5, 3) := by decide +kernel
theorem dX0_hasAll_37 : decode cX0_hasAll 37 = .ok (.iconst 0, 1) := by decide +kernel
theorem dX0_hasAll_38 : decode cX0_hasAll 38 = .ok (.ireturn, 1) := by decide +kernel
theorem dX0_hasAll_39 : decode cX0_hasAll 39 = .ok (.goto (-29), 3) := by decide +kernel
theorem dX0_hasAll_42 : decode cX0_hasAll 42 = .ok (.iconst 1, 1) := by decide +kernel
theorem dX0_hasAll_43 : decode cX0_hasAll 43 = .ok (.ireturn, 1) := by decide +kernel
abbrev cX0_entry : ByteArray := prog_1_method_15_code
def yX0_entry : MethodName := ⟨RX0, "entry", "(III)J"⟩
theorem dX0_entry_0 : decode cX0_entry 0 = .ok (.iload_n 1, 1) := by decide +kernel
theorem dX0_entry_1 : decode cX0_entry 1 = .ok (.iconst 1, 1) := by decide +kernel
theorem dX0_entry_2 : decode cX0_entry 2 = .ok (.if_icmp .lt 17, 3) := by decide +kernel
theorem dX0_entry_5 : decode cX0_entry 5 = .ok (.iload_n 1, 1) := by decide +kernel
theorem dX0_entry_6 : decode cX0_entry 6 = .ok (.iconst 2, 1) := by decide +kernel
theorem dX0_entry_7 : decode cX0_entry 7 = .ok (.if_icmp .gt 12, 3) := by decide +kernel
theorem dX0_entry_10 : decode cX0_entry 10 = .ok (.iload_n 3, 1) := by decide +kernel
theorem dX0_entry_11 : decode cX0_entry 11 = .ok (.ifCond .lt 8, 3) := by decide +kernel
theorem dX0_entry_14 : decode cX0_entry 14 = .ok (.iload_n 3, 1) := by decide +kernel
theorem dX0_entry_15 : decode cX0_entry 15 = .ok (.iconst 1, 1) := by decide +kernel
theorem dX0_entry_16 : decode cX0_entry 16 = .ok (.if_icmp .le 7, 3) := by decide +kernel
theorem dX0_entry_19 : decode cX0_entry 19 = .ok (.ldc2_w 42, 3) := by decide +kernel
theorem dX0_entry_22 : decode cX0_entry 22 = .ok (.lreturn, 1) := by decide +kernel
theorem dX0_entry_23 : decode cX0_entry 23 = .ok (.iconst 0, 1) := by decide +kernel
theorem dX0_entry_24 : decode cX0_entry 24 = .ok (.istore 4, 2) := by decide +kernel
theorem dX0_entry_26 : decode cX0_entry 26 = .ok (.aload_n 0, 1) := by decide +kernel
theorem dX0_entry_27 : decode cX0_entry 27 = .ok (.iload_n 1, 1) := by decide +kernel
theorem dX0_entry_28 : decode cX0_entry 28 = .ok (.invokevirtual 38, 3) := by decide +kernel
theorem dX0_entry_31 : decode cX0_entry 31 = .ok (.invokevirtual 113, 3) := by decide +kernel
theorem dX0_entry_34 : decode cX0_entry 34 = .ok (.invokeinterface 89 1, 5) := by decide +kernel
theorem dX0_entry_39 : decode cX0_entry 39 = .ok (.astore 5, 2) := by decide +kernel
theorem dX0_entry_41 : decode cX0_entry 41 = .ok (.aload 5, 2) := by decide +kernel
theorem dX0_entry_43 : decode cX0_entry 43 = .ok (.invokeinterface 95 1, 5) := by decide +kernel
theorem dX0_entry_48 : decode cX0_entry 48 = .ok (.ifCond .eq 59, 3) := by decide +kernel
theorem dX0_entry_51 : decode cX0_entry 51 = .ok (.aload 5, 2) := by decide +kernel
theorem dX0_entry_53 : decode cX0_entry 53 = .ok (.invokeinterface 101 1, 5) := by decide +kernel
theorem dX0_entry_58 : decode cX0_entry 58 = .ok (.checkcast 116, 3) := by decide +kernel
theorem dX0_entry_61 : decode cX0_entry 61 = .ok (.astore 6, 2) := by decide +kernel
theorem dX0_entry_63 : decode cX0_entry 63 = .ok (.iload 4, 2) := by decide +kernel
theorem dX0_entry_65 : decode cX0_entry 65 = .ok (.iload_n 2, 1) := by decide +kernel
theorem dX0_entry_66 : decode cX0_entry 66 = .ok (.if_icmp .ne 35, 3) := by decide +kernel
theorem dX0_entry_69 : decode cX0_entry 69 = .ok (.iload_n 3, 1) := by decide +kernel
theorem dX0_entry_70 : decode cX0_entry 70 = .ok (.ifCond .ne 16, 3) := by decide +kernel
theorem dX0_entry_73 : decode cX0_entry 73 = .ok (.aload 6, 2) := by decide +kernel
theorem dX0_entry_75 : decode cX0_entry 75 = .ok (.invokeinterface 118 1, 5) := by decide +kernel
theorem dX0_entry_80 : decode cX0_entry 80 = .ok (.checkcast 33, 3) := by decide +kernel
theorem dX0_entry_83 : decode cX0_entry 83 = .ok (.goto 13, 3) := by decide +kernel
theorem dX0_entry_86 : decode cX0_entry 86 = .ok (.aload 6, 2) := by decide +kernel
theorem dX0_entry_88 : decode cX0_entry 88 = .ok (.invokeinterface 121 1, 5) := by decide +kernel
theorem dX0_entry_93 : decode cX0_entry 93 = .ok (.checkcast 33, 3) := by decide +kernel
theorem dX0_entry_96 : decode cX0_entry 96 = .ok (.invokevirtual 32, 3) := by decide +kernel
theorem dX0_entry_99 : decode cX0_entry 99 = .ok (.i2l, 1) := by decide +kernel
theorem dX0_entry_100 : decode cX0_entry 100 = .ok (.lreturn, 1) := by decide +kernel
theorem dX0_entry_101 : decode cX0_entry 101 = .ok (.iinc 4 1, 3) := by decide +kernel
theorem dX0_entry_104 : decode cX0_entry 104 = .ok (.goto (-63), 3) := by decide +kernel
theorem dX0_entry_107 : decode cX0_entry 107 = .ok (.ldc2_w 30, 3) := by decide +kernel
theorem dX0_entry_110 : decode cX0_entry 110 = .ok (.lreturn, 1) := by decide +kernel
abbrev cX0_sum : ByteArray := prog_1_method_16_code
def yX0_sum : MethodName := ⟨RX0, "sum", "(I)J"⟩
theorem dX0_sum_0 : decode cX0_sum 0 = .ok (.aload_n 0, 1) := by decide +kernel
theorem dX0_sum_1 : decode cX0_sum 1 = .ok (.iload_n 1, 1) := by decide +kernel
theorem dX0_sum_2 : decode cX0_sum 2 = .ok (.invokevirtual 38, 3) := by decide +kernel
theorem dX0_sum_5 : decode cX0_sum 5 = .ok (.astore_n 2, 1) := by decide +kernel
theorem dX0_sum_6 : decode cX0_sum 6 = .ok (.aload_n 2, 1) := by decide +kernel
theorem dX0_sum_7 : decode cX0_sum 7 = .ok (.ifnonnull 7, 3) := by decide +kernel
theorem dX0_sum_10 : decode cX0_sum 10 = .ok (.ldc2_w 42, 3) := by decide +kernel
theorem dX0_sum_13 : decode cX0_sum 13 = .ok (.lreturn, 1) := by decide +kernel
theorem dX0_sum_14 : decode cX0_sum 14 = .ok (.lconst 0, 1) := by decide +kernel
theorem dX0_sum_15 : decode cX0_sum 15 = .ok (.lstore_n 3, 1) := by decide +kernel
theorem dX0_sum_16 : decode cX0_sum 16 = .ok (.aload_n 2, 1) := by decide +kernel
theorem dX0_sum_17 : decode cX0_sum 17 = .ok (.invokevirtual 113, 3) := by decide +kernel
theorem dX0_sum_20 : decode cX0_sum 20 = .ok (.invokeinterface 89 1, 5) := by decide +kernel
theorem dX0_sum_25 : decode cX0_sum 25 = .ok (.astore 5, 2) := by decide +kernel
theorem dX0_sum_27 : decode cX0_sum 27 = .ok (.aload 5, 2) := by decide +kernel
theorem dX0_sum_29 : decode cX0_sum 29 = .ok (.invokeinterface 95 1, 5) := by decide +kernel
theorem dX0_sum_34 : decode cX0_sum 34 = .ok (.ifCond .eq 53, 3) := by decide +kernel
theorem dX0_sum_37 : decode cX0_sum 37 = .ok (.aload 5, 2) := by decide +kernel
theorem dX0_sum_39 : decode cX0_sum 39 = .ok (.invokeinterface 101 1, 5) := by decide +kernel
theorem dX0_sum_44 : decode cX0_sum 44 = .ok (.checkcast 116, 3) := by decide +kernel
theorem dX0_sum_47 : decode cX0_sum 47 = .ok (.astore 6, 2) := by decide +kernel
theorem dX0_sum_49 : decode cX0_sum 49 = .ok (.lload_n 3, 1) := by decide +kernel
theorem dX0_sum_50 : decode cX0_sum 50 = .ok (.aload 6, 2) := by decide +kernel
theorem dX0_sum_52 : decode cX0_sum 52 = .ok (.invokeinterface 118 1, 5) := by decide +kernel
theorem dX0_sum_57 : decode cX0_sum 57 = .ok (.checkcast 33, 3) := by decide +kernel
theorem dX0_sum_60 : decode cX0_sum 60 = .ok (.invokevirtual 124, 3) := by decide +kernel
theorem dX0_sum_63 : decode cX0_sum 63 = .ok (.ldc2_w 128, 3) := by decide +kernel
theorem dX0_sum_66 : decode cX0_sum 66 = .ok (.lmul, 1) := by decide +kernel
theorem dX0_sum_67 : decode cX0_sum 67 = .ok (.aload 6, 2) := by decide +kernel
theorem dX0_sum_69 : decode cX0_sum 69 = .ok (.invokeinterface 121 1, 5) := by decide +kernel
theorem dX0_sum_74 : decode cX0_sum 74 = .ok (.checkcast 33, 3) := by decide +kernel
theorem dX0_sum_77 : decode cX0_sum 77 = .ok (.invokevirtual 32, 3) := by decide +kernel
theorem dX0_sum_80 : decode cX0_sum 80 = .ok (.i2l, 1) := by decide +kernel
theorem dX0_sum_81 : decode cX0_sum 81 = .ok (.ladd, 1) := by decide +kernel
theorem dX0_sum_82 : decode cX0_sum 82 = .ok (.ladd, 1) := by decide +kernel
theorem dX0_sum_83 : decode cX0_sum 83 = .ok (.lstore_n 3, 1) := by decide +kernel
theorem dX0_sum_84 : decode cX0_sum 84 = .ok (.goto (-57), 3) := by decide +kernel
theorem dX0_sum_87 : decode cX0_sum 87 = .ok (.lload_n 3, 1) := by decide +kernel
theorem dX0_sum_88 : decode cX0_sum 88 = .ok (.lreturn, 1) := by decide +kernel
abbrev cX0_sweep : ByteArray := prog_1_method_17_code
def yX0_sweep : MethodName := ⟨RX0, "sweep", "(III)I"⟩
theorem dX0_sweep_0 : decode cX0_sweep 0 = .ok (.aload_n 0, 1) := by decide +kernel
theorem dX0_sweep_1 : decode cX0_sweep 1 = .ok (.iload_n 1, 1) := by decide +kernel
theorem dX0_sweep_2 : decode cX0_sweep 2 = .ok (.invokevirtual 38, 3) := by decide +kernel
theorem dX0_sweep_5 : decode cX0_sweep 5 = .ok (.astore 4, 2) := by decide +kernel
theorem dX0_sweep_7 : decode cX0_sweep 7 = .ok (.aload 4, 2) := by decide +kernel
theorem dX0_sweep_9 : decode cX0_sweep 9 = .ok (.ifnull 8, 3) := by decide +kernel
theorem dX0_sweep_12 : decode cX0_sweep 12 = .ok (.iload_n 2, 1) := by decide +kernel
theorem dX0_sweep_13 : decode cX0_sweep 13 = .ok (.iconst 1, 1) := by decide +kernel
theorem dX0_sweep_14 : decode cX0_sweep 14 = .ok (.if_icmp .ge 5, 3) := by decide +kernel
theorem dX0_sweep_17 : decode cX0_sweep 17 = .ok (.iconst (-1), 1) := by decide +kernel
theorem dX0_sweep_18 : decode cX0_sweep 18 = .ok (.ireturn, 1) := by decide +kernel
theorem dX0_sweep_19 : decode cX0_sweep 19 = .ok (.iconst 0, 1) := by decide +kernel
theorem dX0_sweep_20 : decode cX0_sweep 20 = .ok (.istore 5, 2) := by decide +kernel
theorem dX0_sweep_22 : decode cX0_sweep 22 = .ok (.aload 4, 2) := by decide +kernel
theorem dX0_sweep_24 : decode cX0_sweep 24 = .ok (.invokevirtual 113, 3) := by decide +kernel
theorem dX0_sweep_27 : decode cX0_sweep 27 = .ok (.invokeinterface 89 1, 5) := by decide +kernel
theorem dX0_sweep_32 : decode cX0_sweep 32 = .ok (.astore 6, 2) := by decide +kernel
theorem dX0_sweep_34 : decode cX0_sweep 34 = .ok (.aload 6, 2) := by decide +kernel
theorem dX0_sweep_36 : decode cX0_sweep 36 = .ok (.invokeinterface 95 1, 5) := by decide +kernel
theorem dX0_sweep_41 : decode cX0_sweep 41 = .ok (.ifCond .eq 48, 3) := by decide +kernel
theorem dX0_sweep_44 : decode cX0_sweep 44 = .ok (.aload 6, 2) := by decide +kernel
theorem dX0_sweep_46 : decode cX0_sweep 46 = .ok (.invokeinterface 101 1, 5) := by decide +kernel
theorem dX0_sweep_51 : decode cX0_sweep 51 = .ok (.checkcast 116, 3) := by decide +kernel
theorem dX0_sweep_54 : decode cX0_sweep 54 = .ok (.invokeinterface 118 1, 5) := by decide +kernel
theorem dX0_sweep_59 : decode cX0_sweep 59 = .ok (.checkcast 33, 3) := by decide +kernel
theorem dX0_sweep_62 : decode cX0_sweep 62 = .ok (.invokevirtual 32, 3) := by decide +kernel
theorem dX0_sweep_65 : decode cX0_sweep 65 = .ok (.iload_n 2, 1) := by decide +kernel
theorem dX0_sweep_66 : decode cX0_sweep 66 = .ok (.invokestatic 130, 3) := by decide +kernel
theorem dX0_sweep_69 : decode cX0_sweep 69 = .ok (.iload_n 3, 1) := by decide +kernel
theorem dX0_sweep_70 : decode cX0_sweep 70 = .ok (.if_icmp .eq 6, 3) := by decide +kernel
theorem dX0_sweep_73 : decode cX0_sweep 73 = .ok (.goto (-39), 3) := by decide +kernel
theorem dX0_sweep_76 : decode cX0_sweep 76 = .ok (.aload 6, 2) := by decide +kernel
theorem dX0_sweep_78 : decode cX0_sweep 78 = .ok (.invokeinterface 136 1, 5) := by decide +kernel
theorem dX0_sweep_83 : decode cX0_sweep 83 = .ok (.iinc 5 1, 3) := by decide +kernel
theorem dX0_sweep_86 : decode cX0_sweep 86 = .ok (.goto (-52), 3) := by decide +kernel
theorem dX0_sweep_89 : decode cX0_sweep 89 = .ok (.iload 5, 2) := by decide +kernel
theorem dX0_sweep_91 : decode cX0_sweep 91 = .ok (.ireturn, 1) := by decide +kernel
abbrev cX0_raise : ByteArray := prog_1_method_18_code
def yX0_raise : MethodName := ⟨RX0, "raise", "(II)I"⟩
theorem dX0_raise_0 : decode cX0_raise 0 = .ok (.aload_n 0, 1) := by decide +kernel
theorem dX0_raise_1 : decode cX0_raise 1 = .ok (.iload_n 1, 1) := by decide +kernel
theorem dX0_raise_2 : decode cX0_raise 2 = .ok (.invokevirtual 38, 3) := by decide +kernel
theorem dX0_raise_5 : decode cX0_raise 5 = .ok (.astore_n 3, 1) := by decide +kernel
theorem dX0_raise_6 : decode cX0_raise 6 = .ok (.aload_n 3, 1) := by decide +kernel
theorem dX0_raise_7 : decode cX0_raise 7 = .ok (.ifnonnull 5, 3) := by decide +kernel
theorem dX0_raise_10 : decode cX0_raise 10 = .ok (.iconst (-1), 1) := by decide +kernel
theorem dX0_raise_11 : decode cX0_raise 11 = .ok (.ireturn, 1) := by decide +kernel
theorem dX0_raise_12 : decode cX0_raise 12 = .ok (.aload_n 3, 1) := by decide +kernel
theorem dX0_raise_13 : decode cX0_raise 13 = .ok (.invokevirtual 113, 3) := by decide +kernel
theorem dX0_raise_16 : decode cX0_raise 16 = .ok (.invokeinterface 89 1, 5) := by decide +kernel
theorem dX0_raise_21 : decode cX0_raise 21 = .ok (.astore 4, 2) := by decide +kernel
theorem dX0_raise_23 : decode cX0_raise 23 = .ok (.aload 4, 2) := by decide +kernel
theorem dX0_raise_25 : decode cX0_raise 25 = .ok (.invokeinterface 95 1, 5) := by decide +kernel
theorem dX0_raise_30 : decode cX0_raise 30 = .ok (.ifCond .eq 44, 3) := by decide +kernel
theorem dX0_raise_33 : decode cX0_raise 33 = .ok (.aload 4, 2) := by decide +kernel
theorem dX0_raise_35 : decode cX0_raise 35 = .ok (.invokeinterface 101 1, 5) := by decide +kernel
theorem dX0_raise_40 : decode cX0_raise 40 = .ok (.checkcast 116, 3) := by decide +kernel
theorem dX0_raise_43 : decode cX0_raise 43 = .ok (.astore 5, 2) := by decide +kernel
theorem dX0_raise_45 : decode cX0_raise 45 = .ok (.aload 5, 2) := by decide +kernel
theorem dX0_raise_47 : decode cX0_raise 47 = .ok (.aload 5, 2) := by decide +kernel
theorem dX0_raise_49 : decode cX0_raise 49 = .ok (.invokeinterface 121 1, 5) := by decide +kernel
theorem dX0_raise_54 : decode cX0_raise 54 = .ok (.checkcast 33, 3) := by decide +kernel
theorem dX0_raise_57 : decode cX0_raise 57 = .ok (.invokevirtual 32, 3) := by decide +kernel
theorem dX0_raise_60 : decode cX0_raise 60 = .ok (.iload_n 2, 1) := by decide +kernel
theorem dX0_raise_61 : decode cX0_raise 61 = .ok (.iadd, 1) := by decide +kernel
theorem dX0_raise_62 : decode cX0_raise 62 = .ok (.invokestatic 44, 3) := by decide +kernel
theorem dX0_raise_65 : decode cX0_raise 65 = .ok (.invokeinterface 138 2, 5) := by decide +kernel
theorem dX0_raise_70 : decode cX0_raise 70 = .ok (.pop, 1) := by decide +kernel
theorem dX0_raise_71 : decode cX0_raise 71 = .ok (.goto (-48), 3) := by decide +kernel
theorem dX0_raise_74 : decode cX0_raise 74 = .ok (.aload_n 3, 1) := by decide +kernel
theorem dX0_raise_75 : decode cX0_raise 75 = .ok (.invokevirtual 79, 3) := by decide +kernel
theorem dX0_raise_78 : decode cX0_raise 78 = .ok (.ireturn, 1) := by decide +kernel
abbrev cX0_same : ByteArray := prog_1_method_19_code
def yX0_same : MethodName := ⟨RX0, "same", "(II)Z"⟩
theorem dX0_same_0 : decode cX0_same 0 = .ok (.aload_n 0, 1) := by decide +kernel
theorem dX0_same_1 : decode cX0_same 1 = .ok (.iload_n 1, 1) := by decide +kernel
theorem dX0_same_2 : decode cX0_same 2 = .ok (.invokevirtual 38, 3) := by decide +kernel
theorem dX0_same_5 : decode cX0_same 5 = .ok (.astore_n 3, 1) := by decide +kernel
theorem dX0_same_6 : decode cX0_same 6 = .ok (.aload_n 0, 1) := by decide +kernel
theorem dX0_same_7 : decode cX0_same 7 = .ok (.iload_n 2, 1) := by decide +kernel
theorem dX0_same_8 : decode cX0_same 8 = .ok (.invokevirtual 38, 3) := by decide +kernel
theorem dX0_same_11 : decode cX0_same 11 = .ok (.astore 4, 2) := by decide +kernel
theorem dX0_same_13 : decode cX0_same 13 = .ok (.aload_n 3, 1) := by decide +kernel
theorem dX0_same_14 : decode cX0_same 14 = .ok (.ifnull 8, 3) := by decide +kernel
theorem dX0_same_17 : decode cX0_same 17 = .ok (.aload 4, 2) := by decide +kernel
theorem dX0_same_19 : decode cX0_same 19 = .ok (.ifnonnull 5, 3) := by decide +kernel
theorem dX0_same_22 : decode cX0_same 22 = .ok (.iconst 0, 1) := by decide +kernel
theorem dX0_same_23 : decode cX0_same 23 = .ok (.ireturn, 1) := by decide +kernel
theorem dX0_same_24 : decode cX0_same 24 = .ok (.aload 4, 2) := by decide +kernel
theorem dX0_same_26 : decode cX0_same 26 = .ok (.aload_n 0, 1) := by decide +kernel
theorem dX0_same_27 : decode cX0_same 27 = .ok (.getfield 27, 3) := by decide +kernel
theorem dX0_same_30 : decode cX0_same 30 = .ok (.if_acmp .ne 12, 3) := by decide +kernel
theorem dX0_same_33 : decode cX0_same 33 = .ok (.aload 4, 2) := by decide +kernel
theorem dX0_same_35 : decode cX0_same 35 = .ok (.aload_n 3, 1) := by decide +kernel
theorem dX0_same_36 : decode cX0_same 36 = .ok (.invokevirtual 141, 3) := by decide +kernel
theorem dX0_same_39 : decode cX0_same 39 = .ok (.goto 9, 3) := by decide +kernel
theorem dX0_same_42 : decode cX0_same 42 = .ok (.aload_n 3, 1) := by decide +kernel
theorem dX0_same_43 : decode cX0_same 43 = .ok (.aload 4, 2) := by decide +kernel
theorem dX0_same_45 : decode cX0_same 45 = .ok (.invokevirtual 141, 3) := by decide +kernel
theorem dX0_same_48 : decode cX0_same 48 = .ok (.ireturn, 1) := by decide +kernel
abbrev cX0_fill : ByteArray := prog_1_method_20_code
def yX0_fill : MethodName := ⟨RX0, "fill", "(IIII)I"⟩
theorem dX0_fill_0 : decode cX0_fill 0 = .ok (.aload_n 0, 1) := by decide +kernel
theorem dX0_fill_1 : decode cX0_fill 1 = .ok (.iload_n 1, 1) := by decide +kernel
theorem dX0_fill_2 : decode cX0_fill 2 = .ok (.invokevirtual 38, 3) := by decide +kernel
theorem dX0_fill_5 : decode cX0_fill 5 = .ok (.astore 5, 2) := by decide +kernel
theorem dX0_fill_7 : decode cX0_fill 7 = .ok (.aload 5, 2) := by decide +kernel
theorem dX0_fill_9 : decode cX0_fill 9 = .ok (.ifnull 28, 3) := by decide +kernel
theorem dX0_fill_12 : decode cX0_fill 12 = .ok (.iload 4, 2) := by decide +kernel
theorem dX0_fill_14 : decode cX0_fill 14 = .ok (.iconst 1, 1) := by decide +kernel
theorem dX0_fill_15 : decode cX0_fill 15 = .ok (.if_icmp .lt 22, 3) := by decide +kernel
theorem dX0_fill_18 : decode cX0_fill 18 = .ok (.iload 4, 2) := by decide +kernel
theorem dX0_fill_20 : decode cX0_fill 20 = .ok (.sipush 400, 3) := by decide +kernel
theorem dX0_fill_23 : decode cX0_fill 23 = .ok (.if_icmp .gt 14, 3) := by decide +kernel
theorem dX0_fill_26 : decode cX0_fill 26 = .ok (.aload 5, 2) := by decide +kernel
theorem dX0_fill_28 : decode cX0_fill 28 = .ok (.invokevirtual 79, 3) := by decide +kernel
theorem dX0_fill_31 : decode cX0_fill 31 = .ok (.sipush 1000, 3) := by decide +kernel
theorem dX0_fill_34 : decode cX0_fill 34 = .ok (.if_icmp .le 5, 3) := by decide +kernel
theorem dX0_fill_37 : decode cX0_fill 37 = .ok (.iconst (-1), 1) := by decide +kernel
theorem dX0_fill_38 : decode cX0_fill 38 = .ok (.ireturn, 1) := by decide +kernel
theorem dX0_fill_39 : decode cX0_fill 39 = .ok (.iload_n 2, 1) := by decide +kernel
theorem dX0_fill_40 : decode cX0_fill 40 = .ok (.istore 6, 2) := by decide +kernel
theorem dX0_fill_42 : decode cX0_fill 42 = .ok (.iconst 0, 1) := by decide +kernel
theorem dX0_fill_43 : decode cX0_fill 43 = .ok (.istore 7, 2) := by decide +kernel
theorem dX0_fill_45 : decode cX0_fill 45 = .ok (.iload 7, 2) := by decide +kernel
theorem dX0_fill_47 : decode cX0_fill 47 = .ok (.iload 4, 2) := by decide +kernel
theorem dX0_fill_49 : decode cX0_fill 49 = .ok (.if_icmp .ge 31, 3) := by decide +kernel
theorem dX0_fill_52 : decode cX0_fill 52 = .ok (.aload 5, 2) := by decide +kernel
theorem dX0_fill_54 : decode cX0_fill 54 = .ok (.iload 6, 2) := by decide +kernel
theorem dX0_fill_56 : decode cX0_fill 56 = .ok (.invokestatic 44, 3) := by decide +kernel
theorem dX0_fill_59 : decode cX0_fill 59 = .ok (.iload 7, 2) := by decide +kernel
theorem dX0_fill_61 : decode cX0_fill 61 = .ok (.invokestatic 44, 3) := by decide +kernel
theorem dX0_fill_64 : decode cX0_fill 64 = .ok (.invokevirtual 48, 3) := by decide +kernel
theorem dX0_fill_67 : decode cX0_fill 67 = .ok (.pop, 1) := by decide +kernel
theorem dX0_fill_68 : decode cX0_fill 68 = .ok (.iload 6, 2) := by decide +kernel
theorem dX0_fill_70 : decode cX0_fill 70 = .ok (.iload_n 3, 1) := by decide +kernel
theorem dX0_fill_71 : decode cX0_fill 71 = .ok (.iadd, 1) := by decide +kernel
theorem dX0_fill_72 : decode cX0_fill 72 = .ok (.istore 6, 2) := by decide +kernel
theorem dX0_fill_74 : decode cX0_fill 74 = .ok (.iinc 7 1, 3) := by decide +kernel
theorem dX0_fill_77 : decode cX0_fill 77 = .ok (.goto (-32), 3) := by decide +kernel
theorem dX0_fill_80 : decode cX0_fill 80 = .ok (.aload 5, 2) := by decide +kernel
theorem dX0_fill_82 : decode cX0_fill 82 = .ok (.invokevirtual 79, 3) := by decide +kernel
theorem dX0_fill_85 : decode cX0_fill 85 = .ok (.ireturn, 1) := by decide +kernel
theorem q9 : (Jvm.Cond.initialized "HashHall") ∈ lw_all := lw_g (lw_at lw_m1 1 rfl) rfl
theorem q40 : (Jvm.Cond.instantiable "HashHall" (3 : Nat)) ∈ lw_all := lw_g (lw_at lw_m1 32 rfl) rfl
theorem q42 : (Jvm.Cond.instanceMethod ({ cls := "HashHall", name := "<init>", desc := "()V" } : Jvm.MethodName)) ∈ lw_all := lw_g (lw_at lw_m1 34 rfl) rfl
theorem q43 : (Jvm.Cond.code ({ cls := "HashHall", name := "<init>", desc := "()V" } : Jvm.MethodName) prog_1_method_1_code (1 : Nat) (Option.none : Option Jvm.ClassFile.FieldType)) ∈ lw_all := lw_g (lw_at lw_m1 35 rfl) rfl
theorem q44 : (Jvm.Cond.methodLink "HashHall" (1 : Nat) ({ cls := "java/lang/Object", name := "<init>", desc := "()V" } : Jvm.MethodName)) ∈ lw_all := lw_g (lw_at lw_m1 36 rfl) rfl
theorem q47 : (Jvm.Cond.classLink "HashHall" (7 : Nat) "java/util/HashMap") ∈ lw_all := lw_g (lw_at lw_m1 39 rfl) rfl
theorem q49 : (Jvm.Cond.methodLink "HashHall" (9 : Nat) ({ cls := "java/util/HashMap", name := "<init>", desc := "()V" } : Jvm.MethodName)) ∈ lw_all := lw_g (lw_at lw_m1 41 rfl) rfl
theorem q97 : (Jvm.Cond.classLink "HashHall" (16 : Nat) "java/util/LinkedHashMap") ∈ lw_all := lw_g (lw_at lw_m1 89 rfl) rfl
theorem q99 : (Jvm.Cond.methodLink "HashHall" (18 : Nat) ({ cls := "java/util/LinkedHashMap", name := "<init>", desc := "()V" } : Jvm.MethodName)) ∈ lw_all := lw_g (lw_at lw_m1 91 rfl) rfl
theorem q126 : (Jvm.Cond.constantFloat "HashHall" (23 : Nat) (1061158912 : UInt32)) ∈ lw_all := lw_g (lw_at lw_m1 118 rfl) rfl
theorem q127 : (Jvm.Cond.methodLink "HashHall" (24 : Nat) ({ cls := "java/util/LinkedHashMap", name := "<init>", desc := "(IFZ)V" } : Jvm.MethodName)) ∈ lw_all := lw_g (lw_at lw_m1 119 rfl) rfl
theorem q144 : (Jvm.Cond.fieldLink "HashHall" (10 : Nat) "HashHall" "plain" "Ljava/util/HashMap;") ∈ lw_all := lw_g (lw_at lw_m1 136 rfl) rfl
theorem q145 : (Jvm.Cond.fieldLink "HashHall" (19 : Nat) "HashHall" "coming" "Ljava/util/LinkedHashMap;") ∈ lw_all := lw_g (lw_at lw_m1 137 rfl) rfl
theorem q146 : (Jvm.Cond.fieldLink "HashHall" (27 : Nat) "HashHall" "used" "Ljava/util/LinkedHashMap;") ∈ lw_all := lw_g (lw_at lw_m1 138 rfl) rfl
theorem q147 : (Jvm.Cond.laysFinal "HashHall" "HashHall" "plain" "Ljava/util/HashMap;") ∈ lw_all := lw_g (lw_at lw_m1 139 rfl) rfl
theorem q148 : (Jvm.Cond.soleField "HashHall" "plain") ∈ lw_all := lw_g (lw_at lw_m1 140 rfl) rfl
theorem q149 : (Jvm.Cond.laysFinal "HashHall" "HashHall" "coming" "Ljava/util/LinkedHashMap;") ∈ lw_all := lw_g (lw_at lw_m1 141 rfl) rfl
theorem q150 : (Jvm.Cond.soleField "HashHall" "coming") ∈ lw_all := lw_g (lw_at lw_m1 142 rfl) rfl
theorem q151 : (Jvm.Cond.laysFinal "HashHall" "HashHall" "used" "Ljava/util/LinkedHashMap;") ∈ lw_all := lw_g (lw_at lw_m1 143 rfl) rfl
theorem q152 : (Jvm.Cond.soleField "HashHall" "used") ∈ lw_all := lw_g (lw_at lw_m1 144 rfl) rfl
theorem q153 : (Jvm.Cond.superclass "HashHall" "java/lang/Object") ∈ lw_all := lw_g (lw_at lw_m1 145 rfl) rfl
theorem q155 : (Jvm.Cond.instanceMethod ({ cls := "HashHall", name := "put", desc := "(III)J" } : Jvm.MethodName)) ∈ lw_all := lw_g (lw_at lw_m1 147 rfl) rfl
theorem q156 : (Jvm.Cond.selects "HashHall" ({ cls := "HashHall", name := "put", desc := "(III)J" } : Jvm.MethodName) ({ cls := "HashHall", name := "put", desc := "(III)J" } : Jvm.MethodName)) ∈ lw_all := lw_g (lw_at lw_m1 148 rfl) rfl
theorem q157 : (Jvm.Cond.code ({ cls := "HashHall", name := "put", desc := "(III)J" } : Jvm.MethodName) prog_1_method_4_code (5 : Nat) (Option.some Jvm.ClassFile.FieldType.long)) ∈ lw_all := lw_g (lw_at lw_m1 149 rfl) rfl
theorem q158 : (Jvm.Cond.methodLink "HashHall" (38 : Nat) ({ cls := "HashHall", name := "map", desc := "(I)Ljava/util/HashMap;" } : Jvm.MethodName)) ∈ lw_all := lw_g (lw_at lw_m1 150 rfl) rfl
theorem q159 : (Jvm.Cond.privateMethod ({ cls := "HashHall", name := "map", desc := "(I)Ljava/util/HashMap;" } : Jvm.MethodName)) ∈ lw_tbl := lw_at lw_m1 151 rfl
theorem q160 : (Jvm.Cond.instanceMethod ({ cls := "HashHall", name := "map", desc := "(I)Ljava/util/HashMap;" } : Jvm.MethodName)) ∈ lw_all := lw_g (lw_at lw_m1 152 rfl) rfl
theorem q161 : (Jvm.Cond.code ({ cls := "HashHall", name := "map", desc := "(I)Ljava/util/HashMap;" } : Jvm.MethodName) prog_1_method_2_code (2 : Nat) (Option.some (Jvm.ClassFile.FieldType.object "java/util/HashMap"))) ∈ lw_all := lw_g (lw_at lw_m1 153 rfl) rfl
theorem q162 : (Jvm.Cond.constantLong "HashHall" (42 : Nat) (1099511627777 : Int64)) ∈ lw_all := lw_g (lw_at lw_m1 154 rfl) rfl
theorem q163 : (Jvm.Cond.methodLink "HashHall" (44 : Nat) ({ cls := "java/lang/Integer", name := "valueOf", desc := "(I)Ljava/lang/Integer;" } : Jvm.MethodName)) ∈ lw_all := lw_g (lw_at lw_m1 155 rfl) rfl
theorem q183 : (Jvm.Cond.methodLink "HashHall" (48 : Nat) ({ cls := "java/util/HashMap", name := "put", desc := "(Ljava/lang/Object;Ljava/lang/Object;)Ljava/lang/Object;" } : Jvm.MethodName)) ∈ lw_all := lw_g (lw_at lw_m1 175 rfl) rfl
theorem q196 : (Jvm.Cond.selects "HashHall" ({ cls := "java/lang/Object", name := "hashCode", desc := "()I" } : Jvm.MethodName) ({ cls := "java/lang/Object", name := "hashCode", desc := "()I" } : Jvm.MethodName)) ∈ lw_all := lw_g (lw_at lw_m1 188 rfl) rfl
theorem q317 : (Jvm.Cond.selects "HashHall" ({ cls := "java/lang/Object", name := "getClass", desc := "()Ljava/lang/Class;" } : Jvm.MethodName) ({ cls := "java/lang/Object", name := "getClass", desc := "()Ljava/lang/Class;" } : Jvm.MethodName)) ∈ lw_all := lw_g (lw_at lw_m2 69 rfl) rfl
theorem q385 : (Jvm.Cond.selects "HashHall" ({ cls := "java/lang/Object", name := "equals", desc := "(Ljava/lang/Object;)Z" } : Jvm.MethodName) ({ cls := "java/lang/Object", name := "equals", desc := "(Ljava/lang/Object;)Z" } : Jvm.MethodName)) ∈ lw_all := lw_g (lw_at lw_m2 137 rfl) rfl
theorem q482 : (Jvm.Cond.classLink "HashHall" (33 : Nat) "java/lang/Integer") ∈ lw_all := lw_g (lw_at lw_m2 234 rfl) rfl
theorem q483 : (Jvm.Cond.methodLink "HashHall" (52 : Nat) ({ cls := "HashHall", name := "told", desc := "(Ljava/lang/Integer;)J" } : Jvm.MethodName)) ∈ lw_all := lw_g (lw_at lw_m2 235 rfl) rfl
theorem q484 : (Jvm.Cond.static ({ cls := "HashHall", name := "told", desc := "(Ljava/lang/Integer;)J" } : Jvm.MethodName)) ∈ lw_all := lw_g (lw_at lw_m2 236 rfl) rfl
theorem q485 : (Jvm.Cond.code ({ cls := "HashHall", name := "told", desc := "(Ljava/lang/Integer;)J" } : Jvm.MethodName) prog_1_method_3_code (1 : Nat) (Option.some Jvm.ClassFile.FieldType.long)) ∈ lw_all := lw_g (lw_at lw_m2 237 rfl) rfl
theorem q486 : (Jvm.Cond.constantLong "HashHall" (30 : Nat) (1099511627776 : Int64)) ∈ lw_all := lw_g (lw_at lw_m2 238 rfl) rfl
theorem q487 : (Jvm.Cond.methodLink "HashHall" (32 : Nat) ({ cls := "java/lang/Integer", name := "intValue", desc := "()I" } : Jvm.MethodName)) ∈ lw_all := lw_g (lw_at lw_m2 239 rfl) rfl
theorem q489 : (Jvm.Cond.instanceMethod ({ cls := "HashHall", name := "add", desc := "(III)J" } : Jvm.MethodName)) ∈ lw_all := lw_g (lw_at lw_m3 1 rfl) rfl
theorem q490 : (Jvm.Cond.selects "HashHall" ({ cls := "HashHall", name := "add", desc := "(III)J" } : Jvm.MethodName) ({ cls := "HashHall", name := "add", desc := "(III)J" } : Jvm.MethodName)) ∈ lw_all := lw_g (lw_at lw_m3 2 rfl) rfl
theorem q491 : (Jvm.Cond.code ({ cls := "HashHall", name := "add", desc := "(III)J" } : Jvm.MethodName) prog_1_method_5_code (5 : Nat) (Option.some Jvm.ClassFile.FieldType.long)) ∈ lw_all := lw_g (lw_at lw_m3 3 rfl) rfl
theorem q492 : (Jvm.Cond.methodLink "HashHall" (56 : Nat) ({ cls := "java/util/HashMap", name := "putIfAbsent", desc := "(Ljava/lang/Object;Ljava/lang/Object;)Ljava/lang/Object;" } : Jvm.MethodName)) ∈ lw_all := lw_g (lw_at lw_m3 4 rfl) rfl
theorem q499 : (Jvm.Cond.instanceMethod ({ cls := "HashHall", name := "get", desc := "(II)J" } : Jvm.MethodName)) ∈ lw_all := lw_g (lw_at lw_m3 11 rfl) rfl
theorem q500 : (Jvm.Cond.selects "HashHall" ({ cls := "HashHall", name := "get", desc := "(II)J" } : Jvm.MethodName) ({ cls := "HashHall", name := "get", desc := "(II)J" } : Jvm.MethodName)) ∈ lw_all := lw_g (lw_at lw_m3 12 rfl) rfl
theorem q501 : (Jvm.Cond.code ({ cls := "HashHall", name := "get", desc := "(II)J" } : Jvm.MethodName) prog_1_method_6_code (4 : Nat) (Option.some Jvm.ClassFile.FieldType.long)) ∈ lw_all := lw_g (lw_at lw_m3 13 rfl) rfl
theorem q502 : (Jvm.Cond.methodLink "HashHall" (59 : Nat) ({ cls := "java/util/HashMap", name := "get", desc := "(Ljava/lang/Object;)Ljava/lang/Object;" } : Jvm.MethodName)) ∈ lw_all := lw_g (lw_at lw_m3 14 rfl) rfl
theorem q523 : (Jvm.Cond.instanceMethod ({ cls := "HashHall", name := "give", desc := "(III)J" } : Jvm.MethodName)) ∈ lw_all := lw_g (lw_at lw_m3 35 rfl) rfl
theorem q524 : (Jvm.Cond.selects "HashHall" ({ cls := "HashHall", name := "give", desc := "(III)J" } : Jvm.MethodName) ({ cls := "HashHall", name := "give", desc := "(III)J" } : Jvm.MethodName)) ∈ lw_all := lw_g (lw_at lw_m3 36 rfl) rfl
theorem q525 : (Jvm.Cond.code ({ cls := "HashHall", name := "give", desc := "(III)J" } : Jvm.MethodName) prog_1_method_7_code (5 : Nat) (Option.some Jvm.ClassFile.FieldType.long)) ∈ lw_all := lw_g (lw_at lw_m3 37 rfl) rfl
theorem q526 : (Jvm.Cond.methodLink "HashHall" (63 : Nat) ({ cls := "java/util/HashMap", name := "getOrDefault", desc := "(Ljava/lang/Object;Ljava/lang/Object;)Ljava/lang/Object;" } : Jvm.MethodName)) ∈ lw_all := lw_g (lw_at lw_m3 38 rfl) rfl
theorem q535 : (Jvm.Cond.instanceMethod ({ cls := "HashHall", name := "remove", desc := "(II)J" } : Jvm.MethodName)) ∈ lw_all := lw_g (lw_at lw_m3 47 rfl) rfl
theorem q536 : (Jvm.Cond.selects "HashHall" ({ cls := "HashHall", name := "remove", desc := "(II)J" } : Jvm.MethodName) ({ cls := "HashHall", name := "remove", desc := "(II)J" } : Jvm.MethodName)) ∈ lw_all := lw_g (lw_at lw_m3 48 rfl) rfl
theorem q537 : (Jvm.Cond.code ({ cls := "HashHall", name := "remove", desc := "(II)J" } : Jvm.MethodName) prog_1_method_8_code (4 : Nat) (Option.some Jvm.ClassFile.FieldType.long)) ∈ lw_all := lw_g (lw_at lw_m3 49 rfl) rfl
theorem q538 : (Jvm.Cond.methodLink "HashHall" (66 : Nat) ({ cls := "java/util/HashMap", name := "remove", desc := "(Ljava/lang/Object;)Ljava/lang/Object;" } : Jvm.MethodName)) ∈ lw_all := lw_g (lw_at lw_m3 50 rfl) rfl
theorem q566 : (Jvm.Cond.instanceMethod ({ cls := "HashHall", name := "take", desc := "(III)Z" } : Jvm.MethodName)) ∈ lw_all := lw_g (lw_at lw_m3 78 rfl) rfl
theorem q567 : (Jvm.Cond.selects "HashHall" ({ cls := "HashHall", name := "take", desc := "(III)Z" } : Jvm.MethodName) ({ cls := "HashHall", name := "take", desc := "(III)Z" } : Jvm.MethodName)) ∈ lw_all := lw_g (lw_at lw_m3 79 rfl) rfl
theorem q568 : (Jvm.Cond.code ({ cls := "HashHall", name := "take", desc := "(III)Z" } : Jvm.MethodName) prog_1_method_9_code (5 : Nat) (Option.some Jvm.ClassFile.FieldType.boolean)) ∈ lw_all := lw_g (lw_at lw_m3 80 rfl) rfl
theorem q569 : (Jvm.Cond.methodLink "HashHall" (69 : Nat) ({ cls := "java/util/HashMap", name := "remove", desc := "(Ljava/lang/Object;Ljava/lang/Object;)Z" } : Jvm.MethodName)) ∈ lw_all := lw_g (lw_at lw_m3 81 rfl) rfl
theorem q576 : (Jvm.Cond.instanceMethod ({ cls := "HashHall", name := "has", desc := "(III)Z" } : Jvm.MethodName)) ∈ lw_all := lw_g (lw_at lw_m3 88 rfl) rfl
theorem q577 : (Jvm.Cond.selects "HashHall" ({ cls := "HashHall", name := "has", desc := "(III)Z" } : Jvm.MethodName) ({ cls := "HashHall", name := "has", desc := "(III)Z" } : Jvm.MethodName)) ∈ lw_all := lw_g (lw_at lw_m3 89 rfl) rfl
theorem q578 : (Jvm.Cond.code ({ cls := "HashHall", name := "has", desc := "(III)Z" } : Jvm.MethodName) prog_1_method_10_code (6 : Nat) (Option.some Jvm.ClassFile.FieldType.boolean)) ∈ lw_all := lw_g (lw_at lw_m3 90 rfl) rfl
theorem q579 : (Jvm.Cond.methodLink "HashHall" (72 : Nat) ({ cls := "java/util/HashMap", name := "containsKey", desc := "(Ljava/lang/Object;)Z" } : Jvm.MethodName)) ∈ lw_all := lw_g (lw_at lw_m3 91 rfl) rfl
theorem q585 : (Jvm.Cond.methodLink "HashHall" (76 : Nat) ({ cls := "java/util/HashMap", name := "containsValue", desc := "(Ljava/lang/Object;)Z" } : Jvm.MethodName)) ∈ lw_all := lw_g (lw_at lw_m3 97 rfl) rfl
theorem q595 : (Jvm.Cond.instanceMethod ({ cls := "HashHall", name := "size", desc := "(I)I" } : Jvm.MethodName)) ∈ lw_all := lw_g (lw_at lw_m3 107 rfl) rfl
theorem q596 : (Jvm.Cond.selects "HashHall" ({ cls := "HashHall", name := "size", desc := "(I)I" } : Jvm.MethodName) ({ cls := "HashHall", name := "size", desc := "(I)I" } : Jvm.MethodName)) ∈ lw_all := lw_g (lw_at lw_m3 108 rfl) rfl
theorem q597 : (Jvm.Cond.code ({ cls := "HashHall", name := "size", desc := "(I)I" } : Jvm.MethodName) prog_1_method_11_code (3 : Nat) (Option.some Jvm.ClassFile.FieldType.int)) ∈ lw_all := lw_g (lw_at lw_m3 109 rfl) rfl
theorem q598 : (Jvm.Cond.methodLink "HashHall" (79 : Nat) ({ cls := "java/util/HashMap", name := "size", desc := "()I" } : Jvm.MethodName)) ∈ lw_all := lw_g (lw_at lw_m3 110 rfl) rfl
theorem q605 : (Jvm.Cond.instanceMethod ({ cls := "HashHall", name := "clear", desc := "(I)I" } : Jvm.MethodName)) ∈ lw_all := lw_g (lw_at lw_m3 117 rfl) rfl
theorem q606 : (Jvm.Cond.selects "HashHall" ({ cls := "HashHall", name := "clear", desc := "(I)I" } : Jvm.MethodName) ({ cls := "HashHall", name := "clear", desc := "(I)I" } : Jvm.MethodName)) ∈ lw_all := lw_g (lw_at lw_m3 118 rfl) rfl
theorem q607 : (Jvm.Cond.code ({ cls := "HashHall", name := "clear", desc := "(I)I" } : Jvm.MethodName) prog_1_method_12_code (4 : Nat) (Option.some Jvm.ClassFile.FieldType.int)) ∈ lw_all := lw_g (lw_at lw_m3 119 rfl) rfl
theorem q608 : (Jvm.Cond.methodLink "HashHall" (82 : Nat) ({ cls := "java/util/HashMap", name := "clear", desc := "()V" } : Jvm.MethodName)) ∈ lw_all := lw_g (lw_at lw_m3 120 rfl) rfl
theorem q618 : (Jvm.Cond.instanceMethod ({ cls := "HashHall", name := "pour", desc := "(II)I" } : Jvm.MethodName)) ∈ lw_all := lw_g (lw_at lw_m3 130 rfl) rfl
theorem q619 : (Jvm.Cond.selects "HashHall" ({ cls := "HashHall", name := "pour", desc := "(II)I" } : Jvm.MethodName) ({ cls := "HashHall", name := "pour", desc := "(II)I" } : Jvm.MethodName)) ∈ lw_all := lw_g (lw_at lw_m3 131 rfl) rfl
theorem q620 : (Jvm.Cond.code ({ cls := "HashHall", name := "pour", desc := "(II)I" } : Jvm.MethodName) prog_1_method_14_code (5 : Nat) (Option.some Jvm.ClassFile.FieldType.int)) ∈ lw_all := lw_g (lw_at lw_m3 132 rfl) rfl
theorem q621 : (Jvm.Cond.methodLink "HashHall" (105 : Nat) ({ cls := "HashHall", name := "hasAll", desc := "(Ljava/util/HashMap;Ljava/util/HashMap;)Z" } : Jvm.MethodName)) ∈ lw_all := lw_g (lw_at lw_m3 133 rfl) rfl
theorem q622 : (Jvm.Cond.static ({ cls := "HashHall", name := "hasAll", desc := "(Ljava/util/HashMap;Ljava/util/HashMap;)Z" } : Jvm.MethodName)) ∈ lw_all := lw_g (lw_at lw_m3 134 rfl) rfl
theorem q623 : (Jvm.Cond.code ({ cls := "HashHall", name := "hasAll", desc := "(Ljava/util/HashMap;Ljava/util/HashMap;)Z" } : Jvm.MethodName) prog_1_method_13_code (4 : Nat) (Option.some Jvm.ClassFile.FieldType.boolean)) ∈ lw_all := lw_g (lw_at lw_m3 135 rfl) rfl
theorem q624 : (Jvm.Cond.methodLink "HashHall" (85 : Nat) ({ cls := "java/util/HashMap", name := "keySet", desc := "()Ljava/util/Set;" } : Jvm.MethodName)) ∈ lw_all := lw_g (lw_at lw_m3 136 rfl) rfl
theorem q666 : (Jvm.Cond.interfaceEntry "HashHall" (89 : Nat)) ∈ lw_tbl := lw_at lw_m3 178 rfl
theorem q667 : (Jvm.Cond.methodLink "HashHall" (89 : Nat) ({ cls := "java/util/Set", name := "iterator", desc := "()Ljava/util/Iterator;" } : Jvm.MethodName)) ∈ lw_all := lw_g (lw_at lw_m3 179 rfl) rfl
theorem q768 : (Jvm.Cond.interfaceEntry "HashHall" (95 : Nat)) ∈ lw_tbl := lw_at lw_m4 40 rfl
theorem q769 : (Jvm.Cond.methodLink "HashHall" (95 : Nat) ({ cls := "java/util/Iterator", name := "hasNext", desc := "()Z" } : Jvm.MethodName)) ∈ lw_all := lw_g (lw_at lw_m4 41 rfl) rfl
theorem q790 : (Jvm.Cond.interfaceEntry "HashHall" (101 : Nat)) ∈ lw_tbl := lw_at lw_m4 62 rfl
theorem q791 : (Jvm.Cond.methodLink "HashHall" (101 : Nat) ({ cls := "java/util/Iterator", name := "next", desc := "()Ljava/lang/Object;" } : Jvm.MethodName)) ∈ lw_all := lw_g (lw_at lw_m4 63 rfl) rfl
theorem q847 : (Jvm.Cond.methodLink "HashHall" (109 : Nat) ({ cls := "java/util/HashMap", name := "putAll", desc := "(Ljava/util/Map;)V" } : Jvm.MethodName)) ∈ lw_all := lw_g (lw_at lw_m4 119 rfl) rfl
theorem q973 : (Jvm.Cond.instanceMethod ({ cls := "HashHall", name := "entry", desc := "(III)J" } : Jvm.MethodName)) ∈ lw_all := lw_g (lw_at lw_m5 5 rfl) rfl
theorem q974 : (Jvm.Cond.selects "HashHall" ({ cls := "HashHall", name := "entry", desc := "(III)J" } : Jvm.MethodName) ({ cls := "HashHall", name := "entry", desc := "(III)J" } : Jvm.MethodName)) ∈ lw_all := lw_g (lw_at lw_m5 6 rfl) rfl
theorem q975 : (Jvm.Cond.code ({ cls := "HashHall", name := "entry", desc := "(III)J" } : Jvm.MethodName) prog_1_method_15_code (7 : Nat) (Option.some Jvm.ClassFile.FieldType.long)) ∈ lw_all := lw_g (lw_at lw_m5 7 rfl) rfl
theorem q976 : (Jvm.Cond.methodLink "HashHall" (113 : Nat) ({ cls := "java/util/HashMap", name := "entrySet", desc := "()Ljava/util/Set;" } : Jvm.MethodName)) ∈ lw_all := lw_g (lw_at lw_m5 8 rfl) rfl
theorem q977 : (Jvm.Cond.classLink "HashHall" (116 : Nat) "java/util/Map$Entry") ∈ lw_all := lw_g (lw_at lw_m5 9 rfl) rfl
theorem q978 : (Jvm.Cond.interfaceEntry "HashHall" (118 : Nat)) ∈ lw_tbl := lw_at lw_m5 10 rfl
theorem q979 : (Jvm.Cond.methodLink "HashHall" (118 : Nat) ({ cls := "java/util/Map$Entry", name := "getKey", desc := "()Ljava/lang/Object;" } : Jvm.MethodName)) ∈ lw_all := lw_g (lw_at lw_m5 11 rfl) rfl
theorem q980 : (Jvm.Cond.interfaceEntry "HashHall" (121 : Nat)) ∈ lw_tbl := lw_at lw_m5 12 rfl
theorem q981 : (Jvm.Cond.methodLink "HashHall" (121 : Nat) ({ cls := "java/util/Map$Entry", name := "getValue", desc := "()Ljava/lang/Object;" } : Jvm.MethodName)) ∈ lw_all := lw_g (lw_at lw_m5 13 rfl) rfl
theorem q983 : (Jvm.Cond.instanceMethod ({ cls := "HashHall", name := "sum", desc := "(I)J" } : Jvm.MethodName)) ∈ lw_all := lw_g (lw_at lw_m5 15 rfl) rfl
theorem q984 : (Jvm.Cond.selects "HashHall" ({ cls := "HashHall", name := "sum", desc := "(I)J" } : Jvm.MethodName) ({ cls := "HashHall", name := "sum", desc := "(I)J" } : Jvm.MethodName)) ∈ lw_all := lw_g (lw_at lw_m5 16 rfl) rfl
theorem q985 : (Jvm.Cond.code ({ cls := "HashHall", name := "sum", desc := "(I)J" } : Jvm.MethodName) prog_1_method_16_code (7 : Nat) (Option.some Jvm.ClassFile.FieldType.long)) ∈ lw_all := lw_g (lw_at lw_m5 17 rfl) rfl
theorem q986 : (Jvm.Cond.methodLink "HashHall" (124 : Nat) ({ cls := "java/lang/Integer", name := "longValue", desc := "()J" } : Jvm.MethodName)) ∈ lw_all := lw_g (lw_at lw_m5 18 rfl) rfl
theorem q990 : (Jvm.Cond.constantLong "HashHall" (128 : Nat) (31 : Int64)) ∈ lw_all := lw_g (lw_at lw_m5 22 rfl) rfl
theorem q992 : (Jvm.Cond.instanceMethod ({ cls := "HashHall", name := "sweep", desc := "(III)I" } : Jvm.MethodName)) ∈ lw_all := lw_g (lw_at lw_m5 24 rfl) rfl
theorem q993 : (Jvm.Cond.selects "HashHall" ({ cls := "HashHall", name := "sweep", desc := "(III)I" } : Jvm.MethodName) ({ cls := "HashHall", name := "sweep", desc := "(III)I" } : Jvm.MethodName)) ∈ lw_all := lw_g (lw_at lw_m5 25 rfl) rfl
theorem q994 : (Jvm.Cond.code ({ cls := "HashHall", name := "sweep", desc := "(III)I" } : Jvm.MethodName) prog_1_method_17_code (7 : Nat) (Option.some Jvm.ClassFile.FieldType.int)) ∈ lw_all := lw_g (lw_at lw_m5 26 rfl) rfl
theorem q995 : (Jvm.Cond.methodLink "HashHall" (130 : Nat) ({ cls := "java/lang/Math", name := "floorMod", desc := "(II)I" } : Jvm.MethodName)) ∈ lw_all := lw_g (lw_at lw_m5 27 rfl) rfl
theorem q998 : (Jvm.Cond.interfaceEntry "HashHall" (136 : Nat)) ∈ lw_tbl := lw_at lw_m5 30 rfl
theorem q999 : (Jvm.Cond.methodLink "HashHall" (136 : Nat) ({ cls := "java/util/Iterator", name := "remove", desc := "()V" } : Jvm.MethodName)) ∈ lw_all := lw_g (lw_at lw_m5 31 rfl) rfl
theorem q1022 : (Jvm.Cond.instanceMethod ({ cls := "HashHall", name := "raise", desc := "(II)I" } : Jvm.MethodName)) ∈ lw_all := lw_g (lw_at lw_m5 54 rfl) rfl
theorem q1023 : (Jvm.Cond.selects "HashHall" ({ cls := "HashHall", name := "raise", desc := "(II)I" } : Jvm.MethodName) ({ cls := "HashHall", name := "raise", desc := "(II)I" } : Jvm.MethodName)) ∈ lw_all := lw_g (lw_at lw_m5 55 rfl) rfl
theorem q1024 : (Jvm.Cond.code ({ cls := "HashHall", name := "raise", desc := "(II)I" } : Jvm.MethodName) prog_1_method_18_code (6 : Nat) (Option.some Jvm.ClassFile.FieldType.int)) ∈ lw_all := lw_g (lw_at lw_m5 56 rfl) rfl
theorem q1025 : (Jvm.Cond.interfaceEntry "HashHall" (138 : Nat)) ∈ lw_tbl := lw_at lw_m5 57 rfl
theorem q1026 : (Jvm.Cond.methodLink "HashHall" (138 : Nat) ({ cls := "java/util/Map$Entry", name := "setValue", desc := "(Ljava/lang/Object;)Ljava/lang/Object;" } : Jvm.MethodName)) ∈ lw_all := lw_g (lw_at lw_m5 58 rfl) rfl
theorem q1039 : (Jvm.Cond.instanceMethod ({ cls := "HashHall", name := "same", desc := "(II)Z" } : Jvm.MethodName)) ∈ lw_all := lw_g (lw_at lw_m5 71 rfl) rfl
theorem q1040 : (Jvm.Cond.selects "HashHall" ({ cls := "HashHall", name := "same", desc := "(II)Z" } : Jvm.MethodName) ({ cls := "HashHall", name := "same", desc := "(II)Z" } : Jvm.MethodName)) ∈ lw_all := lw_g (lw_at lw_m5 72 rfl) rfl
theorem q1041 : (Jvm.Cond.code ({ cls := "HashHall", name := "same", desc := "(II)Z" } : Jvm.MethodName) prog_1_method_19_code (5 : Nat) (Option.some Jvm.ClassFile.FieldType.boolean)) ∈ lw_all := lw_g (lw_at lw_m5 73 rfl) rfl
theorem q1042 : (Jvm.Cond.methodLink "HashHall" (141 : Nat) ({ cls := "java/util/HashMap", name := "equals", desc := "(Ljava/lang/Object;)Z" } : Jvm.MethodName)) ∈ lw_all := lw_g (lw_at lw_m5 74 rfl) rfl
theorem q1095 : (Jvm.Cond.instanceMethod ({ cls := "HashHall", name := "fill", desc := "(IIII)I" } : Jvm.MethodName)) ∈ lw_all := lw_g (lw_at lw_m5 127 rfl) rfl
theorem q1096 : (Jvm.Cond.selects "HashHall" ({ cls := "HashHall", name := "fill", desc := "(IIII)I" } : Jvm.MethodName) ({ cls := "HashHall", name := "fill", desc := "(IIII)I" } : Jvm.MethodName)) ∈ lw_all := lw_g (lw_at lw_m5 128 rfl) rfl
theorem q1097 : (Jvm.Cond.code ({ cls := "HashHall", name := "fill", desc := "(IIII)I" } : Jvm.MethodName) prog_1_method_20_code (8 : Nat) (Option.some Jvm.ClassFile.FieldType.int)) ∈ lw_all := lw_g (lw_at lw_m5 129 rfl) rfl
theorem q1295 : (Jvm.Cond.castable "HashHall" "java/lang/Object") ∈ lw_tbl := lw_at lw_m6 87 rfl
theorem in_X0 : ∀ w ∈ wsX00, w ∈ lw_all := lw_in wsX00 [147, 149, 151] (by decide +kernel) (by decide +kernel)
