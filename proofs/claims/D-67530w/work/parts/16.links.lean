/-! LINKS (printed by emit.py): fields, casts, names -/
set_option maxRecDepth 100000
theorem fl_HashHallModel_12 : FL "HashHallModel" 12 41 := ⟨"HashHallModel", q1149, Or.inl rfl⟩
theorem fl_HashHallModel_36 : FL "HashHallModel" 36 44 := ⟨"HashHallModel$Pairs", q1116, Or.inl rfl⟩
theorem fl_HashHallModel_50 : FL "HashHallModel" 50 47 := ⟨"HashHallModel$Pairs", q1121, Or.inl rfl⟩
theorem fl_HashHallModel_54 : FL "HashHallModel" 54 42 := ⟨"HashHallModel$Pairs", q1112, Or.inl rfl⟩
theorem fl_HashHallModel_60 : FL "HashHallModel" 60 43 := ⟨"HashHallModel$Pairs", q1114, Or.inl rfl⟩
theorem fl_HashHallModel_63 : FL "HashHallModel" 63 50 := ⟨"HashHallModel$Pairs", q1125, Or.inl rfl⟩
theorem fl_HashHallModel_70 : FL "HashHallModel" 70 46 := ⟨"HashHallModel$Pairs", q1119, Or.inl rfl⟩
theorem fl_HashHallModel_Pairs_13 : FL "HashHallModel$Pairs" 13 43 := ⟨"HashHallModel$Pairs", q1113, Or.inl rfl⟩
theorem fl_HashHallModel_Pairs_16 : FL "HashHallModel$Pairs" 16 44 := ⟨"HashHallModel$Pairs", q1115, Or.inl rfl⟩
theorem fl_HashHallModel_Pairs_19 : FL "HashHallModel$Pairs" 19 45 := ⟨"HashHallModel$Pairs", q1117, Or.inl rfl⟩
theorem fl_HashHallModel_Pairs_22 : FL "HashHallModel$Pairs" 22 46 := ⟨"HashHallModel$Pairs", q1118, Or.inl rfl⟩
theorem fl_HashHallModel_Pairs_25 : FL "HashHallModel$Pairs" 25 48 := ⟨"HashHallModel$Pairs", q1122, Or.inl rfl⟩
theorem fl_HashHallModel_Pairs_29 : FL "HashHallModel$Pairs" 29 50 := ⟨"HashHallModel$Pairs", q1124, Or.inl rfl⟩
theorem fl_HashHallModel_Pairs_32 : FL "HashHallModel$Pairs" 32 51 := ⟨"HashHallModel$Pairs", q1126, Or.inl rfl⟩
theorem fl_HashHallModel_Pairs_35 : FL "HashHallModel$Pairs" 35 47 := ⟨"HashHallModel$Pairs", q1120, Or.inl rfl⟩
theorem fl_HashHallModel_Pairs_42 : FL "HashHallModel$Pairs" 42 49 := ⟨"HashHallModel$Pairs", q1123, Or.inl rfl⟩
theorem fl_HashHallModel_Pairs_7 : FL "HashHallModel$Pairs" 7 42 := ⟨"HashHallModel$Pairs", q1111, Or.inl rfl⟩
theorem fl_HashHall_10 : FL "HashHall" 10 24 := ⟨"HashHall", q144, Or.inl rfl⟩
theorem fl_HashHall_19 : FL "HashHall" 19 25 := ⟨"HashHall", q145, Or.inl rfl⟩
theorem fl_HashHall_27 : FL "HashHall" 27 26 := ⟨"HashHall", q146, Or.inl rfl⟩
theorem fl_HashMap_105 : FL "java/util/HashMap" 105 13 := ⟨"java/util/HashMap", q58, Or.inl rfl⟩
theorem fl_HashMap_156 : FL "java/util/HashMap" 156 15 := ⟨"java/util/HashMap", q68, Or.inl rfl⟩
theorem fl_HashMap_162 : FL "java/util/HashMap" 162 2 := ⟨"java/util/HashMap$Node", q272, Or.inl rfl⟩
theorem fl_HashMap_168 : FL "java/util/HashMap" 168 0 := ⟨"java/util/HashMap$Node", q259, Or.inl rfl⟩
theorem fl_HashMap_170 : FL "java/util/HashMap" 170 1 := ⟨"java/util/HashMap$Node", q268, Or.inl rfl⟩
theorem fl_HashMap_177 : FL "java/util/HashMap" 177 3 := ⟨"java/util/HashMap$Node", q279, Or.inl rfl⟩
theorem fl_HashMap_202 : FL "java/util/HashMap" 202 16 := ⟨"java/util/HashMap", q73, Or.inl rfl⟩
theorem fl_HashMap_219 : FL "java/util/HashMap" 219 9 := ⟨"java/util/HashMap$TreeNode", q426, Or.inl rfl⟩
theorem fl_HashMap_223 : FL "java/util/HashMap" 223 3 := ⟨"java/util/HashMap$TreeNode", q280, Or.inr q277⟩
theorem fl_HashMap_239 : FL "java/util/HashMap" 239 11 := ⟨"java/util/HashMap", q76, Or.inr q77⟩
theorem fl_HashMap_266 : FL "java/util/HashMap" 266 14 := ⟨"java/util/HashMap", q59, Or.inl rfl⟩
theorem fl_HashMap_81 : FL "java/util/HashMap" 81 18 := ⟨"java/util/HashMap", q75, Or.inl rfl⟩
theorem fl_HashMap_88 : FL "java/util/HashMap" 88 17 := ⟨"java/util/HashMap", q74, Or.inl rfl⟩
theorem fl_HashMap_EntrySet_1 : FL "java/util/HashMap$EntrySet" 1 28 := ⟨"java/util/HashMap$EntrySet", q912, Or.inl rfl⟩
theorem fl_HashMap_HashIterator_1 : FL "java/util/HashMap$HashIterator" 1 35 := ⟨"java/util/HashMap$HashIterator", q689, Or.inl rfl⟩
theorem fl_HashMap_HashIterator_13 : FL "java/util/HashMap$HashIterator" 13 16 := ⟨"java/util/HashMap", q69, Or.inl rfl⟩
theorem fl_HashMap_HashIterator_19 : FL "java/util/HashMap$HashIterator" 19 33 := ⟨"java/util/HashMap$HashIterator", q687, Or.inl rfl⟩
theorem fl_HashMap_HashIterator_22 : FL "java/util/HashMap$HashIterator" 22 13 := ⟨"java/util/HashMap", q57, Or.inl rfl⟩
theorem fl_HashMap_HashIterator_26 : FL "java/util/HashMap$HashIterator" 26 31 := ⟨"java/util/HashMap$HashIterator", q685, Or.inl rfl⟩
theorem fl_HashMap_HashIterator_30 : FL "java/util/HashMap$HashIterator" 30 32 := ⟨"java/util/HashMap$HashIterator", q686, Or.inl rfl⟩
theorem fl_HashMap_HashIterator_33 : FL "java/util/HashMap$HashIterator" 33 34 := ⟨"java/util/HashMap$HashIterator", q688, Or.inl rfl⟩
theorem fl_HashMap_HashIterator_36 : FL "java/util/HashMap$HashIterator" 36 15 := ⟨"java/util/HashMap", q62, Or.inl rfl⟩
theorem fl_HashMap_HashIterator_45 : FL "java/util/HashMap$HashIterator" 45 3 := ⟨"java/util/HashMap$Node", q275, Or.inl rfl⟩
theorem fl_HashMap_HashIterator_51 : FL "java/util/HashMap$HashIterator" 51 0 := ⟨"java/util/HashMap$Node", q255, Or.inl rfl⟩
theorem fl_HashMap_HashIterator_54 : FL "java/util/HashMap$HashIterator" 54 1 := ⟨"java/util/HashMap$Node", q264, Or.inl rfl⟩
theorem fl_HashMap_KeyIterator_13 : FL "java/util/HashMap$KeyIterator" 13 1 := ⟨"java/util/HashMap$Node", q261, Or.inl rfl⟩
theorem fl_HashMap_KeySet_1 : FL "java/util/HashMap$KeySet" 1 27 := ⟨"java/util/HashMap$KeySet", q662, Or.inl rfl⟩
theorem fl_HashMap_Node_13 : FL "java/util/HashMap$Node" 13 1 := ⟨"java/util/HashMap$Node", q260, Or.inl rfl⟩
theorem fl_HashMap_Node_17 : FL "java/util/HashMap$Node" 17 2 := ⟨"java/util/HashMap$Node", q269, Or.inl rfl⟩
theorem fl_HashMap_Node_20 : FL "java/util/HashMap$Node" 20 3 := ⟨"java/util/HashMap$Node", q274, Or.inl rfl⟩
theorem fl_HashMap_Node_7 : FL "java/util/HashMap$Node" 7 0 := ⟨"java/util/HashMap$Node", q252, Or.inl rfl⟩
theorem fl_HashMap_TreeNode_112 : FL "java/util/HashMap$TreeNode" 112 3 := ⟨"java/util/HashMap$Node", q278, Or.inl rfl⟩
theorem fl_HashMap_TreeNode_15 : FL "java/util/HashMap$TreeNode" 15 0 := ⟨"java/util/HashMap$TreeNode", q253, Or.inr q254⟩
theorem fl_HashMap_TreeNode_19 : FL "java/util/HashMap$TreeNode" 19 9 := ⟨"java/util/HashMap$TreeNode", q425, Or.inl rfl⟩
theorem fl_HashMap_TreeNode_22 : FL "java/util/HashMap$TreeNode" 22 3 := ⟨"java/util/HashMap$TreeNode", q276, Or.inr q277⟩
theorem fl_HashMap_TreeNode_39 : FL "java/util/HashMap$TreeNode" 39 7 := ⟨"java/util/HashMap$TreeNode", q423, Or.inl rfl⟩
theorem fl_HashMap_TreeNode_42 : FL "java/util/HashMap$TreeNode" 42 8 := ⟨"java/util/HashMap$TreeNode", q424, Or.inl rfl⟩
theorem fl_HashMap_TreeNode_45 : FL "java/util/HashMap$TreeNode" 45 1 := ⟨"java/util/HashMap$TreeNode", q262, Or.inr q263⟩
theorem fl_HashMap_TreeNode_9 : FL "java/util/HashMap$TreeNode" 9 6 := ⟨"java/util/HashMap$TreeNode", q422, Or.inl rfl⟩
theorem fl_HashMap_TreeNode_93 : FL "java/util/HashMap$TreeNode" 93 10 := ⟨"java/util/HashMap$TreeNode", q427, Or.inl rfl⟩
theorem fl_Integer_205 : FL "java/lang/Integer" 205 23 := ⟨"java/lang/Integer", q179, Or.inl rfl⟩
theorem fl_LinkedHashMap_1 : FL "java/util/LinkedHashMap" 1 22 := ⟨"java/util/LinkedHashMap", q108, Or.inl rfl⟩
theorem fl_LinkedHashMap_107 : FL "java/util/LinkedHashMap" 107 2 := ⟨"java/util/HashMap$Node", q273, Or.inl rfl⟩
theorem fl_LinkedHashMap_11 : FL "java/util/LinkedHashMap" 11 20 := ⟨"java/util/LinkedHashMap", q106, Or.inl rfl⟩
theorem fl_LinkedHashMap_14 : FL "java/util/LinkedHashMap" 14 5 := ⟨"java/util/LinkedHashMap$Entry", q250, Or.inl rfl⟩
theorem fl_LinkedHashMap_151 : FL "java/util/LinkedHashMap" 151 14 := ⟨"java/util/LinkedHashMap", q60, Or.inr q61⟩
theorem fl_LinkedHashMap_19 : FL "java/util/LinkedHashMap" 19 4 := ⟨"java/util/LinkedHashMap$Entry", q248, Or.inl rfl⟩
theorem fl_LinkedHashMap_36 : FL "java/util/LinkedHashMap" 36 0 := ⟨"java/util/LinkedHashMap$Entry", q257, Or.inr q258⟩
theorem fl_LinkedHashMap_39 : FL "java/util/LinkedHashMap" 39 1 := ⟨"java/util/LinkedHashMap$Entry", q266, Or.inr q267⟩
theorem fl_LinkedHashMap_43 : FL "java/util/LinkedHashMap" 43 2 := ⟨"java/util/LinkedHashMap$Entry", q270, Or.inr q271⟩
theorem fl_LinkedHashMap_64 : FL "java/util/LinkedHashMap" 64 21 := ⟨"java/util/LinkedHashMap", q107, Or.inl rfl⟩
theorem fl_LinkedHashMap_68 : FL "java/util/LinkedHashMap" 68 16 := ⟨"java/util/LinkedHashMap", q72, Or.inr q71⟩
theorem fl_LinkedHashMap_7 : FL "java/util/LinkedHashMap" 7 19 := ⟨"java/util/LinkedHashMap", q103, Or.inl rfl⟩
theorem fl_LinkedHashMap_LinkedEntrySet_1 : FL "java/util/LinkedHashMap$LinkedEntrySet" 1 30 := ⟨"java/util/LinkedHashMap$LinkedEntrySet", q932, Or.inl rfl⟩
theorem fl_LinkedHashMap_LinkedEntrySet_13 : FL "java/util/LinkedHashMap$LinkedEntrySet" 13 29 := ⟨"java/util/LinkedHashMap$LinkedEntrySet", q931, Or.inl rfl⟩
theorem fl_LinkedHashMap_LinkedHashIterator_1 : FL "java/util/LinkedHashMap$LinkedHashIterator" 1 40 := ⟨"java/util/LinkedHashMap$LinkedHashIterator", q738, Or.inl rfl⟩
theorem fl_LinkedHashMap_LinkedHashIterator_13 : FL "java/util/LinkedHashMap$LinkedHashIterator" 13 39 := ⟨"java/util/LinkedHashMap$LinkedHashIterator", q737, Or.inl rfl⟩
theorem fl_LinkedHashMap_LinkedHashIterator_17 : FL "java/util/LinkedHashMap$LinkedHashIterator" 17 20 := ⟨"java/util/LinkedHashMap", q105, Or.inl rfl⟩
theorem fl_LinkedHashMap_LinkedHashIterator_23 : FL "java/util/LinkedHashMap$LinkedHashIterator" 23 19 := ⟨"java/util/LinkedHashMap", q104, Or.inl rfl⟩
theorem fl_LinkedHashMap_LinkedHashIterator_26 : FL "java/util/LinkedHashMap$LinkedHashIterator" 26 36 := ⟨"java/util/LinkedHashMap$LinkedHashIterator", q734, Or.inl rfl⟩
theorem fl_LinkedHashMap_LinkedHashIterator_29 : FL "java/util/LinkedHashMap$LinkedHashIterator" 29 16 := ⟨"java/util/LinkedHashMap", q70, Or.inr q71⟩
theorem fl_LinkedHashMap_LinkedHashIterator_33 : FL "java/util/LinkedHashMap$LinkedHashIterator" 33 38 := ⟨"java/util/LinkedHashMap$LinkedHashIterator", q736, Or.inl rfl⟩
theorem fl_LinkedHashMap_LinkedHashIterator_36 : FL "java/util/LinkedHashMap$LinkedHashIterator" 36 37 := ⟨"java/util/LinkedHashMap$LinkedHashIterator", q735, Or.inl rfl⟩
theorem fl_LinkedHashMap_LinkedHashIterator_45 : FL "java/util/LinkedHashMap$LinkedHashIterator" 45 4 := ⟨"java/util/LinkedHashMap$Entry", q249, Or.inl rfl⟩
theorem fl_LinkedHashMap_LinkedHashIterator_50 : FL "java/util/LinkedHashMap$LinkedHashIterator" 50 5 := ⟨"java/util/LinkedHashMap$Entry", q251, Or.inl rfl⟩
theorem fl_LinkedHashMap_LinkedHashIterator_56 : FL "java/util/LinkedHashMap$LinkedHashIterator" 56 0 := ⟨"java/util/HashMap$Node", q256, Or.inl rfl⟩
theorem fl_LinkedHashMap_LinkedHashIterator_61 : FL "java/util/LinkedHashMap$LinkedHashIterator" 61 1 := ⟨"java/util/HashMap$Node", q265, Or.inl rfl⟩
theorem co_HashMap_TreeNode_7 : CastOk "java/util/HashMap$TreeNode" [7] := by
  intro K hK
  simp only [List.mem_cons, List.not_mem_nil, or_false] at hK
  rcases hK with rfl
  · exact ⟨rfl, Or.inl rfl⟩
theorem co_Integer_4_60 : CastOk "java/lang/Integer" [4, 60] := by
  intro K hK
  simp only [List.mem_cons, List.not_mem_nil, or_false] at hK
  rcases hK with rfl | rfl
  · exact ⟨rfl, Or.inl rfl⟩
  · exact ⟨rfl, Or.inl rfl⟩
theorem co_LinkedHashMap_Entry_6_7 : CastOk "java/util/LinkedHashMap$Entry" [6, 7] := by
  intro K hK
  simp only [List.mem_cons, List.not_mem_nil, or_false] at hK
  rcases hK with rfl | rfl
  · exact ⟨rfl, Or.inl rfl⟩
  · exact ⟨rfl, Or.inr q1292⟩
theorem co_Map_2_3 : CastOk "java/util/Map" [2, 3] := by
  intro K hK
  simp only [List.mem_cons, List.not_mem_nil, or_false] at hK
  rcases hK with rfl | rfl
  · exact ⟨rfl, Or.inr q863⟩
  · exact ⟨rfl, Or.inr q867⟩
theorem co_Map_Entry_5_6_7 : CastOk "java/util/Map$Entry" [5, 6, 7] := by
  intro K hK
  simp only [List.mem_cons, List.not_mem_nil, or_false] at hK
  rcases hK with rfl | rfl | rfl
  · exact ⟨rfl, Or.inr q949⟩
  · exact ⟨rfl, Or.inr q956⟩
  · exact ⟨rfl, Or.inr q953⟩
theorem co_SequencedSet_10 : CastOk "java/util/SequencedSet" [10] := by
  intro K hK
  simp only [List.mem_cons, List.not_mem_nil, or_false] at hK
  rcases hK with rfl
  · exact ⟨rfl, Or.inr q1290⟩
theorem cno_HashMap_TreeNode_5_6 {E : Gx} (hG : Glob E) : CastNo E "java/util/HashMap$TreeNode" [5, 6] := by
  intro K hK
  simp only [List.mem_cons, List.not_mem_nil, or_false] at hK
  rcases hK with rfl | rfl
  · exact ⟨rfl, va_Nc.of (flat_of_before _ hG.2.2.2.2.1 (Cond.not (.castable "java/util/HashMap$Node" "java/util/HashMap$TreeNode")) (by decide +kernel))⟩
  · exact ⟨rfl, va_Nc.of (flat_of_before _ hG.2.2.2.2.1 (Cond.not (.castable "java/util/LinkedHashMap$Entry" "java/util/HashMap$TreeNode")) (by decide +kernel))⟩
theorem cno_Integer_ {E : Gx} (_ : Glob E) : CastNo E "java/lang/Integer" [] := fun K hK => by cases hK
theorem cno_Map_ {E : Gx} (_ : Glob E) : CastNo E "java/util/Map" [] := fun K hK => by cases hK
theorem okn_fc1810 : okN ⟨"HashHall", "hasAll", "(Ljava/util/HashMap;Ljava/util/HashMap;)Z"⟩ 2 := by decide +kernel
theorem okn_a136fc : okN ⟨"HashHall", "map", "(I)Ljava/util/HashMap;"⟩ 1 := by decide +kernel
theorem okn_1f5479 : okN ⟨"HashHall", "told", "(Ljava/lang/Integer;)J"⟩ 1 := by decide +kernel
theorem okn_86b887 : okN ⟨"HashHallModel", "get", "(II)J"⟩ 2 := by decide +kernel
theorem okn_52e77d : okN ⟨"HashHallModel", "isMap", "(I)Z"⟩ 1 := by decide +kernel
theorem okn_f555d9 : okN ⟨"HashHallModel", "put", "(III)J"⟩ 3 := by decide +kernel
theorem okn_610819 : okN ⟨"HashHallModel", "use", "(II)V"⟩ 2 := by decide +kernel
theorem okn_71abc0 : okN ⟨"HashHallModel$Pairs", "<init>", "()V"⟩ 0 := by decide +kernel
theorem okn_a0f049 : okN ⟨"HashHallModel$Pairs", "clear", "()V"⟩ 0 := by decide +kernel
theorem okn_770c05 : okN ⟨"HashHallModel$Pairs", "delete", "(I)V"⟩ 1 := by decide +kernel
theorem okn_9f7ea2 : okN ⟨"HashHallModel$Pairs", "find", "(I)I"⟩ 1 := by decide +kernel
theorem okn_d35abf : okN ⟨"HashHallModel$Pairs", "grow", "()V"⟩ 0 := by decide +kernel
theorem okn_47b45c : okN ⟨"HashHallModel$Pairs", "insert", "(II)V"⟩ 2 := by decide +kernel
theorem okn_b4b0ad : okN ⟨"HashHallModel$Pairs", "link", "(I)V"⟩ 1 := by decide +kernel
theorem okn_8469bd : okN ⟨"HashHallModel$Pairs", "rankOf", "(I)I"⟩ 1 := by decide +kernel
theorem okn_851c36 : okN ⟨"HashHallModel$Pairs", "toLast", "(I)V"⟩ 1 := by decide +kernel
theorem okn_c2067a : okN ⟨"HashHallModel$Pairs", "unlink", "(I)V"⟩ 1 := by decide +kernel
theorem okn_fafebc : okN ⟨"java/lang/Float", "isNaN", "(F)Z"⟩ 1 := by decide +kernel
theorem okn_0a4d54 : okN ⟨"java/lang/Integer", "equals", "(Ljava/lang/Object;)Z"⟩ 1 := by decide +kernel
theorem okn_9d0ad0 : okN ⟨"java/lang/Integer", "hashCode", "()I"⟩ 0 := by decide +kernel
theorem okn_08c77c : okN ⟨"java/lang/Integer", "hashCode", "(I)I"⟩ 1 := by decide +kernel
theorem okn_6fb5dd : okN ⟨"java/lang/Integer", "intValue", "()I"⟩ 0 := by decide +kernel
theorem okn_4891ff : okN ⟨"java/lang/Integer", "longValue", "()J"⟩ 0 := by decide +kernel
theorem okn_7fd632 : okN ⟨"java/lang/Integer", "numberOfLeadingZeros", "(I)I"⟩ 1 := by decide +kernel
theorem okn_680428 : okN ⟨"java/lang/Integer", "valueOf", "(I)Ljava/lang/Integer;"⟩ 1 := by decide +kernel
theorem okn_dad945 : okN ⟨"java/lang/Math", "ceil", "(D)D"⟩ 1 := by decide +kernel
theorem okn_f26e60 : okN ⟨"java/lang/Math", "floorMod", "(II)I"⟩ 2 := by decide +kernel
theorem okn_cb593b : okN ⟨"java/lang/Math", "getExponent", "(D)I"⟩ 1 := by decide +kernel
theorem okn_0ed4c2 : okN ⟨"java/lang/Math", "min", "(II)I"⟩ 2 := by decide +kernel
theorem okn_39c0fb : okN ⟨"java/lang/Number", "<init>", "()V"⟩ 0 := by decide +kernel
theorem okn_ad8bbc : okN ⟨"java/lang/Object", "equals", "(Ljava/lang/Object;)Z"⟩ 1 := by decide +kernel
theorem okn_1d1bad : okN ⟨"java/lang/Object", "hashCode", "()I"⟩ 0 := by decide +kernel
theorem okn_a5ec4c : okN ⟨"java/lang/StrictMath", "floorOrCeil", "(DDDD)D"⟩ 4 := by decide +kernel
theorem okn_4409d7 : okN ⟨"java/util/AbstractCollection", "<init>", "()V"⟩ 0 := by decide +kernel
theorem okn_160e58 : okN ⟨"java/util/AbstractMap", "<init>", "()V"⟩ 0 := by decide +kernel
theorem okn_4f1b6c : okN ⟨"java/util/AbstractMap", "entrySet", "()Ljava/util/Set;"⟩ 0 := by decide +kernel
theorem okn_f03d93 : okN ⟨"java/util/AbstractMap", "equals", "(Ljava/lang/Object;)Z"⟩ 1 := by decide +kernel
theorem okn_d43be9 : okN ⟨"java/util/AbstractMap", "size", "()I"⟩ 0 := by decide +kernel
theorem okn_08ccbc : okN ⟨"java/util/AbstractSet", "<init>", "()V"⟩ 0 := by decide +kernel
theorem okn_46067a : okN ⟨"java/util/Arrays", "copyOf", "([II)[I"⟩ 2 := by decide +kernel
theorem okn_f6ee4b : okN ⟨"java/util/HashMap", "<init>", "()V"⟩ 0 := by decide +kernel
theorem okn_6a3e02 : okN ⟨"java/util/HashMap", "<init>", "(IF)V"⟩ 2 := by decide +kernel
theorem okn_e49349 : okN ⟨"java/util/HashMap", "afterNodeAccess", "(Ljava/util/HashMap$Node;)V"⟩ 1 := by decide +kernel
theorem okn_28e131 : okN ⟨"java/util/HashMap", "afterNodeInsertion", "(Z)V"⟩ 1 := by decide +kernel
theorem okn_19db86 : okN ⟨"java/util/HashMap", "afterNodeRemoval", "(Ljava/util/HashMap$Node;)V"⟩ 1 := by decide +kernel
theorem okn_3872f0 : okN ⟨"java/util/HashMap", "clear", "()V"⟩ 0 := by decide +kernel
theorem okn_5d22b1 : okN ⟨"java/util/HashMap", "containsKey", "(Ljava/lang/Object;)Z"⟩ 1 := by decide +kernel
theorem okn_3b63a3 : okN ⟨"java/util/HashMap", "containsValue", "(Ljava/lang/Object;)Z"⟩ 1 := by decide +kernel
theorem okn_119244 : okN ⟨"java/util/HashMap", "entrySet", "()Ljava/util/Set;"⟩ 0 := by decide +kernel
theorem okn_f4c5c6 : okN ⟨"java/util/HashMap", "get", "(Ljava/lang/Object;)Ljava/lang/Object;"⟩ 1 := by decide +kernel
theorem okn_d1b03f : okN ⟨"java/util/HashMap", "getNode", "(Ljava/lang/Object;)Ljava/util/HashMap$Node;"⟩ 1 := by decide +kernel
theorem okn_844235 : okN ⟨"java/util/HashMap", "getOrDefault", "(Ljava/lang/Object;Ljava/lang/Object;)Ljava/lang/Object;"⟩ 2 := by decide +kernel
theorem okn_b794a0 : okN ⟨"java/util/HashMap", "hash", "(Ljava/lang/Object;)I"⟩ 1 := by decide +kernel
theorem okn_84dc74 : okN ⟨"java/util/HashMap", "keySet", "()Ljava/util/Set;"⟩ 0 := by decide +kernel
theorem okn_312c54 : okN ⟨"java/util/HashMap", "newNode", "(ILjava/lang/Object;Ljava/lang/Object;Ljava/util/HashMap$Node;)Ljava/util/HashMap$Node;"⟩ 4 := by decide +kernel
theorem okn_bab38a : okN ⟨"java/util/HashMap", "newTreeNode", "(ILjava/lang/Object;Ljava/lang/Object;Ljava/util/HashMap$Node;)Ljava/util/HashMap$TreeNode;"⟩ 4 := by decide +kernel
theorem okn_4ea4b2 : okN ⟨"java/util/HashMap", "put", "(Ljava/lang/Object;Ljava/lang/Object;)Ljava/lang/Object;"⟩ 2 := by decide +kernel
theorem okn_8c13c7 : okN ⟨"java/util/HashMap", "putAll", "(Ljava/util/Map;)V"⟩ 1 := by decide +kernel
theorem okn_20ac0d : okN ⟨"java/util/HashMap", "putIfAbsent", "(Ljava/lang/Object;Ljava/lang/Object;)Ljava/lang/Object;"⟩ 2 := by decide +kernel
theorem okn_f6c9ff : okN ⟨"java/util/HashMap", "putMapEntries", "(Ljava/util/Map;Z)V"⟩ 2 := by decide +kernel
theorem okn_5fdd77 : okN ⟨"java/util/HashMap", "putVal", "(ILjava/lang/Object;Ljava/lang/Object;ZZ)Ljava/lang/Object;"⟩ 5 := by decide +kernel
theorem okn_1946f1 : okN ⟨"java/util/HashMap", "remove", "(Ljava/lang/Object;)Ljava/lang/Object;"⟩ 1 := by decide +kernel
theorem okn_b53477 : okN ⟨"java/util/HashMap", "remove", "(Ljava/lang/Object;Ljava/lang/Object;)Z"⟩ 2 := by decide +kernel
theorem okn_d60e16 : okN ⟨"java/util/HashMap", "removeNode", "(ILjava/lang/Object;Ljava/lang/Object;ZZ)Ljava/util/HashMap$Node;"⟩ 5 := by decide +kernel
theorem okn_db1b93 : okN ⟨"java/util/HashMap", "replacementNode", "(Ljava/util/HashMap$Node;Ljava/util/HashMap$Node;)Ljava/util/HashMap$Node;"⟩ 2 := by decide +kernel
theorem okn_ecdbc7 : okN ⟨"java/util/HashMap", "replacementTreeNode", "(Ljava/util/HashMap$Node;Ljava/util/HashMap$Node;)Ljava/util/HashMap$TreeNode;"⟩ 2 := by decide +kernel
theorem okn_4da807 : okN ⟨"java/util/HashMap", "resize", "()[Ljava/util/HashMap$Node;"⟩ 0 := by decide +kernel
theorem okn_2c64e6 : okN ⟨"java/util/HashMap", "size", "()I"⟩ 0 := by decide +kernel
theorem okn_e6c13a : okN ⟨"java/util/HashMap", "tableSizeFor", "(I)I"⟩ 1 := by decide +kernel
theorem okn_fdc8e3 : okN ⟨"java/util/HashMap", "treeifyBin", "([Ljava/util/HashMap$Node;I)V"⟩ 2 := by decide +kernel
theorem okn_b9db84 : okN ⟨"java/util/HashMap$EntryIterator", "<init>", "(Ljava/util/HashMap;)V"⟩ 1 := by decide +kernel
theorem okn_30217c : okN ⟨"java/util/HashMap$EntryIterator", "next", "()Ljava/lang/Object;"⟩ 0 := by decide +kernel
theorem okn_3cddc1 : okN ⟨"java/util/HashMap$EntryIterator", "next", "()Ljava/util/Map$Entry;"⟩ 0 := by decide +kernel
theorem okn_55f277 : okN ⟨"java/util/HashMap$EntrySet", "<init>", "(Ljava/util/HashMap;)V"⟩ 1 := by decide +kernel
theorem okn_fd090c : okN ⟨"java/util/HashMap$EntrySet", "iterator", "()Ljava/util/Iterator;"⟩ 0 := by decide +kernel
theorem okn_1af03d : okN ⟨"java/util/HashMap$HashIterator", "<init>", "(Ljava/util/HashMap;)V"⟩ 1 := by decide +kernel
theorem okn_3418e4 : okN ⟨"java/util/HashMap$HashIterator", "hasNext", "()Z"⟩ 0 := by decide +kernel
theorem okn_bb37d7 : okN ⟨"java/util/HashMap$HashIterator", "nextNode", "()Ljava/util/HashMap$Node;"⟩ 0 := by decide +kernel
theorem okn_d5fa9c : okN ⟨"java/util/HashMap$HashIterator", "remove", "()V"⟩ 0 := by decide +kernel
theorem okn_be9647 : okN ⟨"java/util/HashMap$KeyIterator", "<init>", "(Ljava/util/HashMap;)V"⟩ 1 := by decide +kernel
theorem okn_99e8d2 : okN ⟨"java/util/HashMap$KeyIterator", "next", "()Ljava/lang/Object;"⟩ 0 := by decide +kernel
theorem okn_4dc7c7 : okN ⟨"java/util/HashMap$KeySet", "<init>", "(Ljava/util/HashMap;)V"⟩ 1 := by decide +kernel
theorem okn_1c378f : okN ⟨"java/util/HashMap$KeySet", "iterator", "()Ljava/util/Iterator;"⟩ 0 := by decide +kernel
theorem okn_6a5659 : okN ⟨"java/util/HashMap$Node", "<init>", "(ILjava/lang/Object;Ljava/lang/Object;Ljava/util/HashMap$Node;)V"⟩ 4 := by decide +kernel
theorem okn_6b0f6f : okN ⟨"java/util/HashMap$Node", "getKey", "()Ljava/lang/Object;"⟩ 0 := by decide +kernel
theorem okn_685700 : okN ⟨"java/util/HashMap$Node", "getValue", "()Ljava/lang/Object;"⟩ 0 := by decide +kernel
theorem okn_46ba9f : okN ⟨"java/util/HashMap$Node", "setValue", "(Ljava/lang/Object;)Ljava/lang/Object;"⟩ 1 := by decide +kernel
theorem okn_63fed0 : okN ⟨"java/util/HashMap$TreeNode", "<init>", "(ILjava/lang/Object;Ljava/lang/Object;Ljava/util/HashMap$Node;)V"⟩ 4 := by decide +kernel
theorem okn_ae4be3 : okN ⟨"java/util/HashMap$TreeNode", "balanceDeletion", "(Ljava/util/HashMap$TreeNode;Ljava/util/HashMap$TreeNode;)Ljava/util/HashMap$TreeNode;"⟩ 2 := by decide +kernel
theorem okn_7b58fd : okN ⟨"java/util/HashMap$TreeNode", "balanceInsertion", "(Ljava/util/HashMap$TreeNode;Ljava/util/HashMap$TreeNode;)Ljava/util/HashMap$TreeNode;"⟩ 2 := by decide +kernel
theorem okn_0a98a1 : okN ⟨"java/util/HashMap$TreeNode", "find", "(ILjava/lang/Object;Ljava/lang/Class;)Ljava/util/HashMap$TreeNode;"⟩ 3 := by decide +kernel
theorem okn_9ab985 : okN ⟨"java/util/HashMap$TreeNode", "getTreeNode", "(ILjava/lang/Object;)Ljava/util/HashMap$TreeNode;"⟩ 2 := by decide +kernel
theorem okn_ba9dfb : okN ⟨"java/util/HashMap$TreeNode", "moveRootToFront", "([Ljava/util/HashMap$Node;Ljava/util/HashMap$TreeNode;)V"⟩ 2 := by decide +kernel
theorem okn_e5d47e : okN ⟨"java/util/HashMap$TreeNode", "putTreeVal", "(Ljava/util/HashMap;[Ljava/util/HashMap$Node;ILjava/lang/Object;Ljava/lang/Object;)Ljava/util/HashMap$TreeNode;"⟩ 5 := by decide +kernel
theorem okn_dd7cda : okN ⟨"java/util/HashMap$TreeNode", "removeTreeNode", "(Ljava/util/HashMap;[Ljava/util/HashMap$Node;Z)V"⟩ 3 := by decide +kernel
theorem okn_0e0e18 : okN ⟨"java/util/HashMap$TreeNode", "root", "()Ljava/util/HashMap$TreeNode;"⟩ 0 := by decide +kernel
theorem okn_1ce7d6 : okN ⟨"java/util/HashMap$TreeNode", "rotateLeft", "(Ljava/util/HashMap$TreeNode;Ljava/util/HashMap$TreeNode;)Ljava/util/HashMap$TreeNode;"⟩ 2 := by decide +kernel
theorem okn_3b0f86 : okN ⟨"java/util/HashMap$TreeNode", "rotateRight", "(Ljava/util/HashMap$TreeNode;Ljava/util/HashMap$TreeNode;)Ljava/util/HashMap$TreeNode;"⟩ 2 := by decide +kernel
theorem okn_ae5f59 : okN ⟨"java/util/HashMap$TreeNode", "split", "(Ljava/util/HashMap;[Ljava/util/HashMap$Node;II)V"⟩ 4 := by decide +kernel
theorem okn_e8f23f : okN ⟨"java/util/HashMap$TreeNode", "treeify", "([Ljava/util/HashMap$Node;)V"⟩ 1 := by decide +kernel
theorem okn_21073d : okN ⟨"java/util/HashMap$TreeNode", "untreeify", "(Ljava/util/HashMap;)Ljava/util/HashMap$Node;"⟩ 1 := by decide +kernel
theorem okn_1bd07e : okN ⟨"java/util/Iterator", "hasNext", "()Z"⟩ 0 := by decide +kernel
theorem okn_a0cf24 : okN ⟨"java/util/Iterator", "next", "()Ljava/lang/Object;"⟩ 0 := by decide +kernel
theorem okn_52d8a9 : okN ⟨"java/util/Iterator", "remove", "()V"⟩ 0 := by decide +kernel
theorem okn_5c80e6 : okN ⟨"java/util/LinkedHashMap", "<init>", "()V"⟩ 0 := by decide +kernel
theorem okn_c374c6 : okN ⟨"java/util/LinkedHashMap", "<init>", "(IFZ)V"⟩ 3 := by decide +kernel
theorem okn_c1920f : okN ⟨"java/util/LinkedHashMap", "afterNodeAccess", "(Ljava/util/HashMap$Node;)V"⟩ 1 := by decide +kernel
theorem okn_a4a654 : okN ⟨"java/util/LinkedHashMap", "afterNodeInsertion", "(Z)V"⟩ 1 := by decide +kernel
theorem okn_2e483d : okN ⟨"java/util/LinkedHashMap", "afterNodeRemoval", "(Ljava/util/HashMap$Node;)V"⟩ 1 := by decide +kernel
theorem okn_d08233 : okN ⟨"java/util/LinkedHashMap", "clear", "()V"⟩ 0 := by decide +kernel
theorem okn_c9daff : okN ⟨"java/util/LinkedHashMap", "containsValue", "(Ljava/lang/Object;)Z"⟩ 1 := by decide +kernel
theorem okn_a6810f : okN ⟨"java/util/LinkedHashMap", "entrySet", "()Ljava/util/Set;"⟩ 0 := by decide +kernel
theorem okn_90258c : okN ⟨"java/util/LinkedHashMap", "get", "(Ljava/lang/Object;)Ljava/lang/Object;"⟩ 1 := by decide +kernel
theorem okn_caece7 : okN ⟨"java/util/LinkedHashMap", "getOrDefault", "(Ljava/lang/Object;Ljava/lang/Object;)Ljava/lang/Object;"⟩ 2 := by decide +kernel
theorem okn_8ea841 : okN ⟨"java/util/LinkedHashMap", "linkNodeAtEnd", "(Ljava/util/LinkedHashMap$Entry;)V"⟩ 1 := by decide +kernel
theorem okn_dba1e1 : okN ⟨"java/util/LinkedHashMap", "newNode", "(ILjava/lang/Object;Ljava/lang/Object;Ljava/util/HashMap$Node;)Ljava/util/HashMap$Node;"⟩ 4 := by decide +kernel
theorem okn_271e83 : okN ⟨"java/util/LinkedHashMap", "newTreeNode", "(ILjava/lang/Object;Ljava/lang/Object;Ljava/util/HashMap$Node;)Ljava/util/HashMap$TreeNode;"⟩ 4 := by decide +kernel
theorem okn_bf6f0f : okN ⟨"java/util/LinkedHashMap", "removeEldestEntry", "(Ljava/util/Map$Entry;)Z"⟩ 1 := by decide +kernel
theorem okn_28154f : okN ⟨"java/util/LinkedHashMap", "replacementNode", "(Ljava/util/HashMap$Node;Ljava/util/HashMap$Node;)Ljava/util/HashMap$Node;"⟩ 2 := by decide +kernel
theorem okn_ec028c : okN ⟨"java/util/LinkedHashMap", "replacementTreeNode", "(Ljava/util/HashMap$Node;Ljava/util/HashMap$Node;)Ljava/util/HashMap$TreeNode;"⟩ 2 := by decide +kernel
theorem okn_4006f5 : okN ⟨"java/util/LinkedHashMap", "sequencedEntrySet", "()Ljava/util/SequencedSet;"⟩ 0 := by decide +kernel
theorem okn_dad909 : okN ⟨"java/util/LinkedHashMap", "transferLinks", "(Ljava/util/LinkedHashMap$Entry;Ljava/util/LinkedHashMap$Entry;)V"⟩ 2 := by decide +kernel
theorem okn_2abc05 : okN ⟨"java/util/LinkedHashMap$Entry", "<init>", "(ILjava/lang/Object;Ljava/lang/Object;Ljava/util/HashMap$Node;)V"⟩ 4 := by decide +kernel
theorem okn_00361d : okN ⟨"java/util/LinkedHashMap$LinkedEntryIterator", "<init>", "(Ljava/util/LinkedHashMap;Z)V"⟩ 2 := by decide +kernel
theorem okn_9429b8 : okN ⟨"java/util/LinkedHashMap$LinkedEntryIterator", "next", "()Ljava/lang/Object;"⟩ 0 := by decide +kernel
theorem okn_2d1bfd : okN ⟨"java/util/LinkedHashMap$LinkedEntryIterator", "next", "()Ljava/util/Map$Entry;"⟩ 0 := by decide +kernel
theorem okn_540709 : okN ⟨"java/util/LinkedHashMap$LinkedEntrySet", "<init>", "(Ljava/util/LinkedHashMap;Z)V"⟩ 2 := by decide +kernel
theorem okn_6af838 : okN ⟨"java/util/LinkedHashMap$LinkedEntrySet", "iterator", "()Ljava/util/Iterator;"⟩ 0 := by decide +kernel
theorem okn_24483c : okN ⟨"java/util/LinkedHashMap$LinkedHashIterator", "<init>", "(Ljava/util/LinkedHashMap;Z)V"⟩ 2 := by decide +kernel
theorem okn_7d2ba0 : okN ⟨"java/util/LinkedHashMap$LinkedHashIterator", "hasNext", "()Z"⟩ 0 := by decide +kernel
theorem okn_334ed9 : okN ⟨"java/util/LinkedHashMap$LinkedHashIterator", "nextNode", "()Ljava/util/LinkedHashMap$Entry;"⟩ 0 := by decide +kernel
theorem okn_701c69 : okN ⟨"java/util/LinkedHashMap$LinkedHashIterator", "remove", "()V"⟩ 0 := by decide +kernel
theorem okn_ffd7d2 : okN ⟨"java/util/Map", "containsKey", "(Ljava/lang/Object;)Z"⟩ 1 := by decide +kernel
theorem okn_185f23 : okN ⟨"java/util/Map", "entrySet", "()Ljava/util/Set;"⟩ 0 := by decide +kernel
theorem okn_18604e : okN ⟨"java/util/Map", "get", "(Ljava/lang/Object;)Ljava/lang/Object;"⟩ 1 := by decide +kernel
theorem okn_b204ba : okN ⟨"java/util/Map", "size", "()I"⟩ 0 := by decide +kernel
theorem okn_e82fcc : okN ⟨"java/util/Map$Entry", "getKey", "()Ljava/lang/Object;"⟩ 0 := by decide +kernel
theorem okn_b350bc : okN ⟨"java/util/Map$Entry", "getValue", "()Ljava/lang/Object;"⟩ 0 := by decide +kernel
theorem okn_30be6f : okN ⟨"java/util/Map$Entry", "setValue", "(Ljava/lang/Object;)Ljava/lang/Object;"⟩ 1 := by decide +kernel
theorem okn_e2e68a : okN ⟨"java/util/Set", "iterator", "()Ljava/util/Iterator;"⟩ 0 := by decide +kernel
theorem dcl_e59518 : Dc ⟨"java/lang/Object", "equals", "(Ljava/lang/Object;)Z"⟩ := Or.inl ⟨q383, _, _, _, q395⟩
theorem dcl_93c430 : Dc ⟨"java/lang/Object", "hashCode", "()I"⟩ := Or.inr q192
theorem dcl_71bc85 : Dc ⟨"java/util/AbstractMap", "entrySet", "()Ljava/util/Set;"⟩ := Or.inr q1059
theorem dcl_96e05f : Dc ⟨"java/util/AbstractMap", "equals", "(Ljava/lang/Object;)Z"⟩ := Or.inr q1044
theorem dcl_63696a : Dc ⟨"java/util/AbstractMap", "size", "()I"⟩ := Or.inr q1057
theorem dcl_2d753d : Dc ⟨"java/util/HashMap", "afterNodeAccess", "(Ljava/util/HashMap$Node;)V"⟩ := Or.inl ⟨q463, _, _, _, q469⟩
theorem dcl_56d82d : Dc ⟨"java/util/HashMap", "afterNodeInsertion", "(Z)V"⟩ := Or.inl ⟨q471, _, _, _, q481⟩
theorem dcl_7bd56d : Dc ⟨"java/util/HashMap", "afterNodeRemoval", "(Ljava/util/HashMap$Node;)V"⟩ := Or.inl ⟨q558, _, _, _, q564⟩
theorem dcl_3a17e5 : Dc ⟨"java/util/HashMap", "clear", "()V"⟩ := Or.inl ⟨q609, _, _, _, q616⟩
theorem dcl_4b1e20 : Dc ⟨"java/util/HashMap", "containsKey", "(Ljava/lang/Object;)Z"⟩ := Or.inl ⟨q580, _, _, _, q584⟩
theorem dcl_2c9a70 : Dc ⟨"java/util/HashMap", "containsValue", "(Ljava/lang/Object;)Z"⟩ := Or.inl ⟨q586, _, _, _, q593⟩
theorem dcl_402f62 : Dc ⟨"java/util/HashMap", "entrySet", "()Ljava/util/Set;"⟩ := Or.inl ⟨q903, _, _, _, q905⟩
theorem dcl_e4b204 : Dc ⟨"java/util/HashMap", "get", "(Ljava/lang/Object;)Ljava/lang/Object;"⟩ := Or.inl ⟨q503, _, _, _, q520⟩
theorem dcl_88e38d : Dc ⟨"java/util/HashMap", "getNode", "(Ljava/lang/Object;)Ljava/util/HashMap$Node;"⟩ := Or.inl ⟨q513, _, _, _, q514⟩
theorem dcl_a3d4c5 : Dc ⟨"java/util/HashMap", "getOrDefault", "(Ljava/lang/Object;Ljava/lang/Object;)Ljava/lang/Object;"⟩ := Or.inl ⟨q527, _, _, _, q533⟩
theorem dcl_7de7e9 : Dc ⟨"java/util/HashMap", "keySet", "()Ljava/util/Set;"⟩ := Or.inl ⟨q625, _, _, _, q655⟩
theorem dcl_7c78cc : Dc ⟨"java/util/HashMap", "newNode", "(ILjava/lang/Object;Ljava/lang/Object;Ljava/util/HashMap$Node;)Ljava/util/HashMap$Node;"⟩ := Or.inl ⟨q370, _, _, _, q380⟩
theorem dcl_20c672 : Dc ⟨"java/util/HashMap", "newTreeNode", "(ILjava/lang/Object;Ljava/lang/Object;Ljava/util/HashMap$Node;)Ljava/util/HashMap$TreeNode;"⟩ := Or.inl ⟨q410, _, _, _, q445⟩
theorem dcl_103543 : Dc ⟨"java/util/HashMap", "put", "(Ljava/lang/Object;Ljava/lang/Object;)Ljava/lang/Object;"⟩ := Or.inl ⟨q184, _, _, _, q188⟩
theorem dcl_82a39c : Dc ⟨"java/util/HashMap", "putAll", "(Ljava/util/Map;)V"⟩ := Or.inl ⟨q848, _, _, _, q852⟩
theorem dcl_1b0f6d : Dc ⟨"java/util/HashMap", "putIfAbsent", "(Ljava/lang/Object;Ljava/lang/Object;)Ljava/lang/Object;"⟩ := Or.inl ⟨q493, _, _, _, q497⟩
theorem dcl_2a4184 : Dc ⟨"java/util/HashMap", "putMapEntries", "(Ljava/util/Map;Z)V"⟩ := Or.inl ⟨q854, _, _, _, q858⟩
theorem dcl_3cfaa8 : Dc ⟨"java/util/HashMap", "putVal", "(ILjava/lang/Object;Ljava/lang/Object;ZZ)Ljava/lang/Object;"⟩ := Or.inl ⟨q207, _, _, _, q211⟩
theorem dcl_6e3a7c : Dc ⟨"java/util/HashMap", "remove", "(Ljava/lang/Object;)Ljava/lang/Object;"⟩ := Or.inl ⟨q539, _, _, _, q543⟩
theorem dcl_d748ea : Dc ⟨"java/util/HashMap", "remove", "(Ljava/lang/Object;Ljava/lang/Object;)Z"⟩ := Or.inl ⟨q570, _, _, _, q574⟩
theorem dcl_175649 : Dc ⟨"java/util/HashMap", "removeNode", "(ILjava/lang/Object;Ljava/lang/Object;ZZ)Ljava/util/HashMap$Node;"⟩ := Or.inl ⟨q545, _, _, _, q549⟩
theorem dcl_ab3624 : Dc ⟨"java/util/HashMap", "replacementNode", "(Ljava/util/HashMap$Node;Ljava/util/HashMap$Node;)Ljava/util/HashMap$Node;"⟩ := Or.inl ⟨q233, _, _, _, q298⟩
theorem dcl_b5cbf1 : Dc ⟨"java/util/HashMap", "replacementTreeNode", "(Ljava/util/HashMap$Node;Ljava/util/HashMap$Node;)Ljava/util/HashMap$TreeNode;"⟩ := Or.inl ⟨q454, _, _, _, q460⟩
theorem dcl_c76c33 : Dc ⟨"java/util/HashMap", "resize", "()[Ljava/util/HashMap$Node;"⟩ := Or.inl ⟨q213, _, _, _, q217⟩
theorem dcl_3acc5a : Dc ⟨"java/util/HashMap", "size", "()I"⟩ := Or.inl ⟨q599, _, _, _, q603⟩
theorem dcl_7df631 : Dc ⟨"java/util/HashMap", "treeifyBin", "([Ljava/util/HashMap$Node;I)V"⟩ := Or.inl ⟨q448, _, _, _, q452⟩
theorem dcl_55abb1 : Dc ⟨"java/util/HashMap$HashIterator", "nextNode", "()Ljava/util/HashMap$Node;"⟩ := Or.inl ⟨q807, _, _, _, q808⟩
theorem dcl_7925f7 : Dc ⟨"java/util/LinkedHashMap$LinkedHashIterator", "nextNode", "()Ljava/util/LinkedHashMap$Entry;"⟩ := Or.inl ⟨q830, _, _, _, q831⟩
