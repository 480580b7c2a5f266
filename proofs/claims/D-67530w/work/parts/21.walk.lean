/-! WALKS (printed by emit.py): J18_init J19_init J23_iterator J6_getKey J6_getValue J1_init J5_numberOfLeadingZeros J1_tableSizeFor J4_isNaN J1_init_2 J6_init J1_replacementNode J2_transferLinks J7_init J2_replacementNode J8_untreeify J8_rotateLeft J8_rotateRight J8_balanceInsertion J8_moveRootToFront J8_treeify -/
set_option maxRecDepth 100000
def wp_J18_init_b30 (K : Hp → Prop) (h : Hp) (l0 : Option Nat) (l1 : Option Nat) (s0 : Option Nat) (s1 : Option Nat) : Prop :=
  (∃ a36, s1 = some a36 ∧ (∀ h38, h38 = wR h 36 a36 s0 → (∃ a39, l1 = some a39 ∧ (∃ a41, l0 = some a41 ∧ (∀ h43, h43 = wI h38 38 a41 (it h38 16 a39) → (∀ h44, h44 = wR h43 37 a41 none → (K h44)))))))
set_option maxHeartbeats 4000000 in
theorem wk_J18_init_b30 {X : Fx} {K : Hp → Prop} (C : Cx X cJ18_init yJ18_init.cls 3 2) (Rr : Rx X (Option.none : Option Jvm.ClassFile.FieldType) (pV K)) (N : Nm X yJ18_init.name) (h : Hp) (l0 : Option Nat) (l1 : Option Nat) (s0 : Option Nat) (s1 : Option Nat) (w : wp_J18_init_b30 K h l0 l1 s0 s1) : Gd X h 30 [some (vR [13] l0), some (vR [3] l1), none] [vR [6, 7] s0, vR [13] s1] := by
  unfold wp_J18_init_b30 at w
  obtain ⟨a36, e37, w⟩ := w
  refine g_putR 33 rfl C dJ18_init_30 fl_LinkedHashMap_LinkedHashIterator_26 rfl rfl rfl e37 rfl ?_
  have w := w _ rfl
  refine g_aload_n 34 rfl C dJ18_init_33 rfl ?_
  refine g_aload_n 35 rfl C dJ18_init_34 rfl ?_
  obtain ⟨a39, e40, w⟩ := w
  refine g_getI 38 rfl C dJ18_init_35 fl_LinkedHashMap_LinkedHashIterator_29 rfl e40 rfl ?_
  obtain ⟨a41, e42, w⟩ := w
  refine g_putI 41 rfl C dJ18_init_38 fl_LinkedHashMap_LinkedHashIterator_33 rfl rfl e42 rfl ?_
  have w := w _ rfl
  refine g_aload_n 42 rfl C dJ18_init_41 rfl ?_
  refine g_null 43 rfl C dJ18_init_42 ?_
  refine g_putR 46 rfl C dJ18_init_43 fl_LinkedHashMap_LinkedHashIterator_36 rfl rfl rfl e42 rfl ?_
  have w := w _ rfl
  exact g_vreturn C Rr dJ18_init_46 ⟨rfl, w⟩
def wp_J18_init (h : Hp) (x0 : Option Nat) (x1 : Option Nat) (x2 : Int32) (K : Hp → Prop) : Prop :=
  (∃ a26, x0 = some a26 ∧ (∀ h28, h28 = wR h 40 a26 x1 → ((x2 = 0 ∨ x2 = 1) ∧ (∀ h29, h29 = wI h28 39 a26 x2 → ((x2 = 0 → (∃ a32, x1 = some a32 ∧ (wp_J18_init_b30 K h29 x0 x1 (rf h29 19 a32) x0))) ∧ (¬ x2 = 0 → (∃ a34, x1 = some a34 ∧ (wp_J18_init_b30 K h29 x0 x1 (rf h29 20 a34) x0))))))))
set_option maxHeartbeats 4000000 in
theorem wk_J18_init {X : Fx} {K : Hp → Prop} (C : Cx X cJ18_init yJ18_init.cls 3 2) (Rr : Rx X (Option.none : Option Jvm.ClassFile.FieldType) (pV K)) (N : Nm X yJ18_init.name) (h : Hp) (x0 : Option Nat) (x1 : Option Nat) (x2 : Int32) (w : wp_J18_init h x0 x1 x2 K) : Gd X h 0 [some (vR [13] x0), some (vR [3] x1), some (vI x2)] [] := by
  unfold wp_J18_init at w
  refine g_aload_n 1 rfl C dJ18_init_0 rfl ?_
  refine g_aload_n 2 rfl C dJ18_init_1 rfl ?_
  obtain ⟨a26, e27, w⟩ := w
  refine g_putRF 5 rfl C N dJ18_init_2 fl_LinkedHashMap_LinkedHashIterator_1 ⟨rfl, rfl⟩ rfl rfl e27 rfl ?_
  have w := w _ rfl
  refine g_aload_n 6 rfl C dJ18_init_5 rfl ?_
  refine g_objInit 9 rfl C dJ18_init_6 q733 q45 q46 (by decide) (Nat.le_of_ble_eq_true rfl) e27 ?_
  refine g_aload_n 10 rfl C dJ18_init_9 rfl ?_
  refine g_iload_n 11 rfl C dJ18_init_10 rfl ?_
  obtain ⟨z30, w⟩ := w
  refine g_putZ 14 rfl C dJ18_init_11 fl_LinkedHashMap_LinkedHashIterator_13 rfl rfl z30 e27 rfl ?_
  have w := w _ rfl
  refine g_aload_n 15 rfl C dJ18_init_14 rfl ?_
  refine g_iload_n 16 rfl C dJ18_init_15 rfl ?_
  refine g_if_eq 19 26 rfl C dJ18_init_16 rfl (fun u31 => ?_) (fun u31 => ?_)
  · have w := w.1 u31
    refine g_aload_n 27 rfl C dJ18_init_26 rfl ?_
    obtain ⟨a32, e33, w⟩ := w
    refine g_getR 30 rfl C dJ18_init_27 fl_LinkedHashMap_LinkedHashIterator_23 rfl e33 rfl ?_
    refine g_sub [some none, some none, none] [none, none] rfl rfl ?_
    exact wk_J18_init_b30 C Rr N _ _ _ _ _ w
  · have w := w.2 u31
    refine g_aload_n 20 rfl C dJ18_init_19 rfl ?_
    obtain ⟨a34, e35, w⟩ := w
    refine g_getR 23 rfl C dJ18_init_20 fl_LinkedHashMap_LinkedHashIterator_17 rfl e35 rfl ?_
    refine g_goto 30 C dJ18_init_23 rfl ?_
    refine g_sub [some none, some none, none] [none, none] rfl rfl ?_
    exact wk_J18_init_b30 C Rr N _ _ _ _ _ w
theorem ct_J18_init {E : Gx} (GE : Glob E) {h : Hp} {x0 : Option Nat} {x1 : Option Nat} {x2 : Int32} {K : Hp → Prop} (w : wp_J18_init h x0 x1 x2 K) : Ct E yJ18_init cJ18_init 3 (Option.none : Option Jvm.ClassFile.FieldType) 2 [vR [13] x0, vR [3] x1, vI x2] h (pV K) :=
  Ct.of GE (by decide +kernel) (by simp [lvA, t2]) rfl (fun X hX C Rr N => wk_J18_init C Rr N h x0 x1 x2 w)
def wp_J19_init (h : Hp) (x0 : Option Nat) (x1 : Option Nat) (x2 : Int32) (K : Hp → Prop) : Prop :=
  (∃ a8, x0 = some a8 ∧ (wp_J18_init h x0 x1 x2 (fun h12 => Ex h h12 → (K h12))))
set_option maxHeartbeats 4000000 in
theorem wk_J19_init {X : Fx} {K : Hp → Prop} (C : Cx X cJ19_init yJ19_init.cls 3 3) (Rr : Rx X (Option.none : Option Jvm.ClassFile.FieldType) (pV K)) (N : Nm X yJ19_init.name) (h : Hp) (x0 : Option Nat) (x1 : Option Nat) (x2 : Int32) (w : wp_J19_init h x0 x1 x2 K) : Gd X h 0 [some (vR [13] x0), some (vR [3] x1), some (vI x2)] [] := by
  unfold wp_J19_init at w
  refine g_aload_n 1 rfl C dJ19_init_0 rfl ?_
  refine g_aload_n 2 rfl C dJ19_init_1 rfl ?_
  refine g_iload_n 3 rfl C dJ19_init_2 rfl ?_
  obtain ⟨a8, e9, w⟩ := w
  refine g_callI (As := [vR [3] _, vI _]) (T := [13]) (st := []) 6 rfl C dJ19_init_3 q730 q731 q32 q732 rfl okn_24483c (by decide) (by decide) (Nat.le_of_ble_eq_true rfl) e9 rfl (ct_J18_init C.glob w) (fun r0 h12 p13 x14 _ => ?_)
  obtain ⟨rfl, w⟩ := p13
  have w := w x14
  change Gd _ _ _ _ []
  exact g_vreturn C Rr dJ19_init_6 ⟨rfl, w⟩
theorem ct_J19_init {E : Gx} (GE : Glob E) {h : Hp} {x0 : Option Nat} {x1 : Option Nat} {x2 : Int32} {K : Hp → Prop} (w : wp_J19_init h x0 x1 x2 K) : Ct E yJ19_init cJ19_init 3 (Option.none : Option Jvm.ClassFile.FieldType) 3 [vR [13] x0, vR [3] x1, vI x2] h (pV K) :=
  Ct.of GE (by decide +kernel) (by simp [lvA, t2]) rfl (fun X hX C Rr N => wk_J19_init C Rr N h x0 x1 x2 w)
def wp_J23_iterator (h : Hp) (x0 : Option Nat) (K : Option Nat → Hp → Prop) : Prop :=
  (Rm h 1 5 ∧ ∀ a17, kd h a17 = 0 → ∀ h18, h18 = nw h a17 13 0 → (∃ a21, x0 = some a21 ∧ ((it h18 29 a21) = 0 ∨ (it h18 29 a21) = 1 → (wp_J19_init h18 (some a17) (rf h18 30 a21) (it h18 29 a21) (fun h26 => Ex h18 h26 → (K (some a17) h26))))))
set_option maxHeartbeats 4000000 in
theorem wk_J23_iterator {X : Fx} {K : Option Nat → Hp → Prop} (C : Cx X cJ23_iterator yJ23_iterator.cls 1 4) (Rr : Rx X (Option.some (Jvm.ClassFile.FieldType.object "java/util/Iterator")) (pR [11, 12, 13] K)) (N : Nm X yJ23_iterator.name) (h : Hp) (x0 : Option Nat) (w : wp_J23_iterator h x0 K) : Gd X h 0 [some (vR [10] x0)] [] := by
  unfold wp_J23_iterator at w
  obtain ⟨r19, w⟩ := w
  refine g_new 13 3 rfl C dJ23_iterator_0 rfl q725 q726 q33 r19 (fun a17 z20 => ?_)
  have w := w a17 z20 _ rfl
  refine g_dup 4 rfl C dJ23_iterator_3 rfl ?_
  refine g_aload_n 5 rfl C dJ23_iterator_4 rfl ?_
  obtain ⟨a21, e22, w⟩ := w
  refine g_getR 8 rfl C dJ23_iterator_5 fl_LinkedHashMap_LinkedEntrySet_1 rfl e22 rfl ?_
  refine g_aload_n 9 rfl C dJ23_iterator_8 rfl ?_
  refine g_getZ 12 rfl C dJ23_iterator_9 fl_LinkedHashMap_LinkedEntrySet_13 rfl e22 rfl (fun z23 => ?_)
  have w := w z23
  refine g_callI (As := [vR [3] _, vI _]) (T := [13]) (st := [vR [13] _]) 15 rfl C dJ23_iterator_12 q727 q728 q33 q729 rfl okn_00361d (by decide) (by decide) (Nat.le_of_ble_eq_true rfl) rfl rfl (ct_J19_init C.glob w) (fun r0 h26 p27 x28 _ => ?_)
  obtain ⟨rfl, w⟩ := p27
  have w := w x28
  change Gd _ _ _ _ [vR [13] _]
  exact g_areturn [11, 12, 13] C Rr rfl dJ23_iterator_15 rfl ⟨_, rfl, w⟩
theorem ct_J23_iterator {E : Gx} (GE : Glob E) {h : Hp} {x0 : Option Nat} {K : Option Nat → Hp → Prop} (w : wp_J23_iterator h x0 K) : Ct E yJ23_iterator cJ23_iterator 1 (Option.some (Jvm.ClassFile.FieldType.object "java/util/Iterator")) 4 [vR [10] x0] h (pR [11, 12, 13] K) :=
  Ct.of GE (by decide +kernel) (by simp [lvA, t2]) rfl (fun X hX C Rr N => wk_J23_iterator C Rr N h x0 w)
def wp_J6_getKey (h : Hp) (x0 : Option Nat) (K : Option Nat → Hp → Prop) : Prop :=
  (∃ a3, x0 = some a3 ∧ (K (rf h 1 a3) h))
set_option maxHeartbeats 4000000 in
theorem wk_J6_getKey {X : Fx} {K : Option Nat → Hp → Prop} (C : Cx X cJ6_getKey yJ6_getKey.cls 1 2) (Rr : Rx X (Option.some (Jvm.ClassFile.FieldType.object "java/lang/Object")) (pR [4, 60] K)) (N : Nm X yJ6_getKey.name) (h : Hp) (x0 : Option Nat) (w : wp_J6_getKey h x0 K) : Gd X h 0 [some (vR [5, 6, 7] x0)] [] := by
  unfold wp_J6_getKey at w
  refine g_aload_n 1 rfl C dJ6_getKey_0 rfl ?_
  obtain ⟨a3, e4, w⟩ := w
  refine g_getR 4 rfl C dJ6_getKey_1 fl_HashMap_Node_13 rfl e4 rfl ?_
  exact g_areturn [4, 60] C Rr rfl dJ6_getKey_4 rfl ⟨_, rfl, w⟩
theorem ct_J6_getKey {E : Gx} (GE : Glob E) {h : Hp} {x0 : Option Nat} {K : Option Nat → Hp → Prop} (w : wp_J6_getKey h x0 K) : Ct E yJ6_getKey cJ6_getKey 1 (Option.some (Jvm.ClassFile.FieldType.object "java/lang/Object")) 2 [vR [5, 6, 7] x0] h (pR [4, 60] K) :=
  Ct.of GE (by decide +kernel) (by simp [lvA, t2]) rfl (fun X hX C Rr N => wk_J6_getKey C Rr N h x0 w)
def wp_J6_getValue (h : Hp) (x0 : Option Nat) (K : Option Nat → Hp → Prop) : Prop :=
  (∃ a3, x0 = some a3 ∧ (K (rf h 2 a3) h))
set_option maxHeartbeats 4000000 in
theorem wk_J6_getValue {X : Fx} {K : Option Nat → Hp → Prop} (C : Cx X cJ6_getValue yJ6_getValue.cls 1 2) (Rr : Rx X (Option.some (Jvm.ClassFile.FieldType.object "java/lang/Object")) (pR [4, 60] K)) (N : Nm X yJ6_getValue.name) (h : Hp) (x0 : Option Nat) (w : wp_J6_getValue h x0 K) : Gd X h 0 [some (vR [5, 6, 7] x0)] [] := by
  unfold wp_J6_getValue at w
  refine g_aload_n 1 rfl C dJ6_getValue_0 rfl ?_
  obtain ⟨a3, e4, w⟩ := w
  refine g_getR 4 rfl C dJ6_getValue_1 fl_HashMap_Node_17 rfl e4 rfl ?_
  exact g_areturn [4, 60] C Rr rfl dJ6_getValue_4 rfl ⟨_, rfl, w⟩
theorem ct_J6_getValue {E : Gx} (GE : Glob E) {h : Hp} {x0 : Option Nat} {K : Option Nat → Hp → Prop} (w : wp_J6_getValue h x0 K) : Ct E yJ6_getValue cJ6_getValue 1 (Option.some (Jvm.ClassFile.FieldType.object "java/lang/Object")) 2 [vR [5, 6, 7] x0] h (pR [4, 60] K) :=
  Ct.of GE (by decide +kernel) (by simp [lvA, t2]) rfl (fun X hX C Rr N => wk_J6_getValue C Rr N h x0 w)
def wp_J1_init (h : Hp) (x0 : Option Nat) (K : Hp → Prop) : Prop :=
  (∃ a11, x0 = some a11 ∧ (wp_J0_init h x0 (fun h15 => Ex h h15 → (∀ h18, h18 = wI h15 18 a11 (1061158912 : UInt32).toInt32 → (K h18)))))
set_option maxHeartbeats 4000000 in
theorem wk_J1_init {X : Fx} {K : Hp → Prop} (C : Cx X cJ1_init yJ1_init.cls 1 3) (Rr : Rx X (Option.none : Option Jvm.ClassFile.FieldType) (pV K)) (N : Nm X yJ1_init.name) (h : Hp) (x0 : Option Nat) (w : wp_J1_init h x0 K) : Gd X h 0 [some (vR [2, 3] x0)] [] := by
  unfold wp_J1_init at w
  refine g_aload_n 1 rfl C dJ1_init_0 rfl ?_
  obtain ⟨a11, e12, w⟩ := w
  refine g_callI (As := []) (T := [2, 3]) (st := []) 4 rfl C dJ1_init_1 q52 q53 q10 q54 rfl okn_160e58 (by decide) (by decide) (Nat.le_of_ble_eq_true rfl) e12 rfl (ct_J0_init C.glob w) (fun r0 h15 p16 x17 _ => ?_)
  obtain ⟨rfl, w⟩ := p16
  have w := w x17
  change Gd _ _ _ _ []
  refine g_aload_n 5 rfl C dJ1_init_4 rfl ?_
  refine g_ldcf 7 rfl C dJ1_init_5 q56 ?_
  refine g_putFF 10 rfl C N dJ1_init_7 fl_HashMap_81 ⟨rfl, rfl⟩ rfl e12 rfl ?_
  have w := w _ rfl
  exact g_vreturn C Rr dJ1_init_10 ⟨rfl, w⟩
theorem ct_J1_init {E : Gx} (GE : Glob E) {h : Hp} {x0 : Option Nat} {K : Hp → Prop} (w : wp_J1_init h x0 K) : Ct E yJ1_init cJ1_init 1 (Option.none : Option Jvm.ClassFile.FieldType) 3 [vR [2, 3] x0] h (pV K) :=
  Ct.of GE (by decide +kernel) (by simp [lvA, t2]) rfl (fun X hX C Rr N => wk_J1_init C Rr N h x0 w)
def wp_J5_numberOfLeadingZeros_b14 (K : Int32 → Hp → Prop) (h : Hp) (s0 : Int32) : Prop :=
  (K s0 h)
set_option maxHeartbeats 4000000 in
theorem wk_J5_numberOfLeadingZeros_b14 {X : Fx} {K : Int32 → Hp → Prop} (C : Cx X cJ5_numberOfLeadingZeros yJ5_numberOfLeadingZeros.cls 2 2) (Rr : Rx X (Option.some Jvm.ClassFile.FieldType.int) (pI K)) (N : Nm X yJ5_numberOfLeadingZeros.name) (h : Hp) (s0 : Int32) (w : wp_J5_numberOfLeadingZeros_b14 K h s0) : Gd X h 14 [none, none] [vI s0] := by
  unfold wp_J5_numberOfLeadingZeros_b14 at w
  exact g_ireturn C Rr dJ5_numberOfLeadingZeros_14 ⟨_, rfl, w⟩
def wp_J5_numberOfLeadingZeros_b73 (K : Int32 → Hp → Prop) (h : Hp) (l0 : Int32) (l1 : Int32) : Prop :=
  (K (l1 - ((l0 : Int32).toUInt32 >>> ((1 : Int32).toUInt32 &&& Int32.toUInt32 31)).toInt32) h)
set_option maxHeartbeats 4000000 in
theorem wk_J5_numberOfLeadingZeros_b73 {X : Fx} {K : Int32 → Hp → Prop} (C : Cx X cJ5_numberOfLeadingZeros yJ5_numberOfLeadingZeros.cls 2 2) (Rr : Rx X (Option.some Jvm.ClassFile.FieldType.int) (pI K)) (N : Nm X yJ5_numberOfLeadingZeros.name) (h : Hp) (l0 : Int32) (l1 : Int32) (w : wp_J5_numberOfLeadingZeros_b73 K h l0 l1) : Gd X h 73 [some (vI l0), some (vI l1)] [] := by
  unfold wp_J5_numberOfLeadingZeros_b73 at w
  refine g_iload_n 74 rfl C dJ5_numberOfLeadingZeros_73 rfl ?_
  refine g_iload_n 75 rfl C dJ5_numberOfLeadingZeros_74 rfl ?_
  refine g_iconst 76 rfl C dJ5_numberOfLeadingZeros_75 1 rfl ?_
  refine g_iushr 77 rfl C dJ5_numberOfLeadingZeros_76 ?_
  refine g_isub 78 rfl C dJ5_numberOfLeadingZeros_77 ?_
  exact g_ireturn C Rr dJ5_numberOfLeadingZeros_78 ⟨_, rfl, w⟩
def wp_J5_numberOfLeadingZeros_b61 (K : Int32 → Hp → Prop) (h : Hp) (l0 : Int32) (l1 : Int32) : Prop :=
  ((l0 < 4 → (wp_J5_numberOfLeadingZeros_b73 K h l0 l1)) ∧ (¬ l0 < 4 → (wp_J5_numberOfLeadingZeros_b73 K h (((l0 : Int32).toUInt32 >>> ((2 : Int32).toUInt32 &&& Int32.toUInt32 31)).toInt32) (l1 + (-2)))))
set_option maxHeartbeats 4000000 in
theorem wk_J5_numberOfLeadingZeros_b61 {X : Fx} {K : Int32 → Hp → Prop} (C : Cx X cJ5_numberOfLeadingZeros yJ5_numberOfLeadingZeros.cls 2 2) (Rr : Rx X (Option.some Jvm.ClassFile.FieldType.int) (pI K)) (N : Nm X yJ5_numberOfLeadingZeros.name) (h : Hp) (l0 : Int32) (l1 : Int32) (w : wp_J5_numberOfLeadingZeros_b61 K h l0 l1) : Gd X h 61 [some (vI l0), some (vI l1)] [] := by
  unfold wp_J5_numberOfLeadingZeros_b61 at w
  refine g_iload_n 62 rfl C dJ5_numberOfLeadingZeros_61 rfl ?_
  refine g_iconst 63 rfl C dJ5_numberOfLeadingZeros_62 4 rfl ?_
  refine g_icmp_lt 66 73 rfl C dJ5_numberOfLeadingZeros_63 rfl (fun u12 => ?_) (fun u12 => ?_)
  · have w := w.1 u12
    refine g_sub [some none, some none] [] rfl rfl ?_
    exact wk_J5_numberOfLeadingZeros_b73 C Rr N _ _ _ w
  · have w := w.2 u12
    refine g_iinc 69 rfl C dJ5_numberOfLeadingZeros_66 rfl _ rfl (by decide) (rfl : _ = [some (vI _), some (vI _)]) ?_
    refine g_iload_n 70 rfl C dJ5_numberOfLeadingZeros_69 rfl ?_
    refine g_iconst 71 rfl C dJ5_numberOfLeadingZeros_70 2 rfl ?_
    refine g_iushr 72 rfl C dJ5_numberOfLeadingZeros_71 ?_
    refine g_istore_n 73 rfl C dJ5_numberOfLeadingZeros_72 (by decide) (rfl : _ = [some (vI _), some (vI _)]) ?_
    refine g_sub [some none, some none] [] rfl rfl ?_
    exact wk_J5_numberOfLeadingZeros_b73 C Rr N _ _ _ w
def wp_J5_numberOfLeadingZeros_b48 (K : Int32 → Hp → Prop) (h : Hp) (l0 : Int32) (l1 : Int32) : Prop :=
  ((l0 < 16 → (wp_J5_numberOfLeadingZeros_b61 K h l0 l1)) ∧ (¬ l0 < 16 → (wp_J5_numberOfLeadingZeros_b61 K h (((l0 : Int32).toUInt32 >>> ((4 : Int32).toUInt32 &&& Int32.toUInt32 31)).toInt32) (l1 + (-4)))))
set_option maxHeartbeats 4000000 in
theorem wk_J5_numberOfLeadingZeros_b48 {X : Fx} {K : Int32 → Hp → Prop} (C : Cx X cJ5_numberOfLeadingZeros yJ5_numberOfLeadingZeros.cls 2 2) (Rr : Rx X (Option.some Jvm.ClassFile.FieldType.int) (pI K)) (N : Nm X yJ5_numberOfLeadingZeros.name) (h : Hp) (l0 : Int32) (l1 : Int32) (w : wp_J5_numberOfLeadingZeros_b48 K h l0 l1) : Gd X h 48 [some (vI l0), some (vI l1)] [] := by
  unfold wp_J5_numberOfLeadingZeros_b48 at w
  refine g_iload_n 49 rfl C dJ5_numberOfLeadingZeros_48 rfl ?_
  refine g_bipush 51 rfl C dJ5_numberOfLeadingZeros_49 16 (by decide) ?_
  refine g_icmp_lt 54 61 rfl C dJ5_numberOfLeadingZeros_51 rfl (fun u7 => ?_) (fun u7 => ?_)
  · have w := w.1 u7
    refine g_sub [some none, some none] [] rfl rfl ?_
    exact wk_J5_numberOfLeadingZeros_b61 C Rr N _ _ _ w
  · have w := w.2 u7
    refine g_iinc 57 rfl C dJ5_numberOfLeadingZeros_54 rfl _ rfl (by decide) (rfl : _ = [some (vI _), some (vI _)]) ?_
    refine g_iload_n 58 rfl C dJ5_numberOfLeadingZeros_57 rfl ?_
    refine g_iconst 59 rfl C dJ5_numberOfLeadingZeros_58 4 rfl ?_
    refine g_iushr 60 rfl C dJ5_numberOfLeadingZeros_59 ?_
    refine g_istore_n 61 rfl C dJ5_numberOfLeadingZeros_60 (by decide) (rfl : _ = [some (vI _), some (vI _)]) ?_
    refine g_sub [some none, some none] [] rfl rfl ?_
    exact wk_J5_numberOfLeadingZeros_b61 C Rr N _ _ _ w
def wp_J5_numberOfLeadingZeros_b33 (K : Int32 → Hp → Prop) (h : Hp) (l0 : Int32) (l1 : Int32) : Prop :=
  ((l0 < 256 → (wp_J5_numberOfLeadingZeros_b48 K h l0 l1)) ∧ (¬ l0 < 256 → (wp_J5_numberOfLeadingZeros_b48 K h (((l0 : Int32).toUInt32 >>> ((8 : Int32).toUInt32 &&& Int32.toUInt32 31)).toInt32) (l1 + (-8)))))
set_option maxHeartbeats 4000000 in
theorem wk_J5_numberOfLeadingZeros_b33 {X : Fx} {K : Int32 → Hp → Prop} (C : Cx X cJ5_numberOfLeadingZeros yJ5_numberOfLeadingZeros.cls 2 2) (Rr : Rx X (Option.some Jvm.ClassFile.FieldType.int) (pI K)) (N : Nm X yJ5_numberOfLeadingZeros.name) (h : Hp) (l0 : Int32) (l1 : Int32) (w : wp_J5_numberOfLeadingZeros_b33 K h l0 l1) : Gd X h 33 [some (vI l0), some (vI l1)] [] := by
  unfold wp_J5_numberOfLeadingZeros_b33 at w
  refine g_iload_n 34 rfl C dJ5_numberOfLeadingZeros_33 rfl ?_
  refine g_sipush 37 rfl C dJ5_numberOfLeadingZeros_34 256 (by decide) ?_
  refine g_icmp_lt 40 48 rfl C dJ5_numberOfLeadingZeros_37 rfl (fun u8 => ?_) (fun u8 => ?_)
  · have w := w.1 u8
    refine g_sub [some none, some none] [] rfl rfl ?_
    exact wk_J5_numberOfLeadingZeros_b48 C Rr N _ _ _ w
  · have w := w.2 u8
    refine g_iinc 43 rfl C dJ5_numberOfLeadingZeros_40 rfl _ rfl (by decide) (rfl : _ = [some (vI _), some (vI _)]) ?_
    refine g_iload_n 44 rfl C dJ5_numberOfLeadingZeros_43 rfl ?_
    refine g_bipush 46 rfl C dJ5_numberOfLeadingZeros_44 8 (by decide) ?_
    refine g_iushr 47 rfl C dJ5_numberOfLeadingZeros_46 ?_
    refine g_istore_n 48 rfl C dJ5_numberOfLeadingZeros_47 (by decide) (rfl : _ = [some (vI _), some (vI _)]) ?_
    refine g_sub [some none, some none] [] rfl rfl ?_
    exact wk_J5_numberOfLeadingZeros_b48 C Rr N _ _ _ w
def wp_J5_numberOfLeadingZeros (h : Hp) (x0 : Int32) (K : Int32 → Hp → Prop) : Prop :=
  ((0 < x0 → ((x0 < (65536 : Int32) → (wp_J5_numberOfLeadingZeros_b33 K h x0 31)) ∧ (¬ x0 < (65536 : Int32) → (wp_J5_numberOfLeadingZeros_b33 K h (((x0 : Int32).toUInt32 >>> ((16 : Int32).toUInt32 &&& Int32.toUInt32 31)).toInt32) (31 + (-16)))))) ∧ (¬ 0 < x0 → ((¬ x0 = 0 → (wp_J5_numberOfLeadingZeros_b14 K h 0)) ∧ (x0 = 0 → (wp_J5_numberOfLeadingZeros_b14 K h 32)))))
set_option maxHeartbeats 4000000 in
theorem wk_J5_numberOfLeadingZeros {X : Fx} {K : Int32 → Hp → Prop} (C : Cx X cJ5_numberOfLeadingZeros yJ5_numberOfLeadingZeros.cls 2 2) (Rr : Rx X (Option.some Jvm.ClassFile.FieldType.int) (pI K)) (N : Nm X yJ5_numberOfLeadingZeros.name) (h : Hp) (x0 : Int32) (w : wp_J5_numberOfLeadingZeros h x0 K) : Gd X h 0 [some (vI x0), none] [] := by
  unfold wp_J5_numberOfLeadingZeros at w
  refine g_iload_n 1 rfl C dJ5_numberOfLeadingZeros_0 rfl ?_
  refine g_if_gt 4 15 rfl C dJ5_numberOfLeadingZeros_1 rfl (fun u9 => ?_) (fun u9 => ?_)
  · have w := w.1 u9
    refine g_bipush 17 rfl C dJ5_numberOfLeadingZeros_15 31 (by decide) ?_
    refine g_istore_n 18 rfl C dJ5_numberOfLeadingZeros_17 (by decide) (rfl : _ = [some (vI _), some (vI _)]) ?_
    refine g_iload_n 19 rfl C dJ5_numberOfLeadingZeros_18 rfl ?_
    refine g_ldcw 22 rfl C dJ5_numberOfLeadingZeros_19 q143 ?_
    refine g_icmp_lt 25 33 rfl C dJ5_numberOfLeadingZeros_22 rfl (fun u10 => ?_) (fun u10 => ?_)
    · have w := w.1 u10
      refine g_sub [some none, some none] [] rfl rfl ?_
      exact wk_J5_numberOfLeadingZeros_b33 C Rr N _ _ _ w
    · have w := w.2 u10
      refine g_iinc 28 rfl C dJ5_numberOfLeadingZeros_25 rfl _ rfl (by decide) (rfl : _ = [some (vI _), some (vI _)]) ?_
      refine g_iload_n 29 rfl C dJ5_numberOfLeadingZeros_28 rfl ?_
      refine g_bipush 31 rfl C dJ5_numberOfLeadingZeros_29 16 (by decide) ?_
      refine g_iushr 32 rfl C dJ5_numberOfLeadingZeros_31 ?_
      refine g_istore_n 33 rfl C dJ5_numberOfLeadingZeros_32 (by decide) (rfl : _ = [some (vI _), some (vI _)]) ?_
      refine g_sub [some none, some none] [] rfl rfl ?_
      exact wk_J5_numberOfLeadingZeros_b33 C Rr N _ _ _ w
  · have w := w.2 u9
    refine g_iload_n 5 rfl C dJ5_numberOfLeadingZeros_4 rfl ?_
    refine g_if_ne 8 13 rfl C dJ5_numberOfLeadingZeros_5 rfl (fun u11 => ?_) (fun u11 => ?_)
    · have w := w.1 u11
      refine g_iconst 14 rfl C dJ5_numberOfLeadingZeros_13 0 rfl ?_
      refine g_sub [none, none] [none] rfl rfl ?_
      exact wk_J5_numberOfLeadingZeros_b14 C Rr N _ _ w
    · have w := w.2 u11
      refine g_bipush 10 rfl C dJ5_numberOfLeadingZeros_8 32 (by decide) ?_
      refine g_goto 14 C dJ5_numberOfLeadingZeros_10 rfl ?_
      refine g_sub [none, none] [none] rfl rfl ?_
      exact wk_J5_numberOfLeadingZeros_b14 C Rr N _ _ w
theorem ct_J5_numberOfLeadingZeros {E : Gx} (GE : Glob E) {h : Hp} {x0 : Int32} {K : Int32 → Hp → Prop} (w : wp_J5_numberOfLeadingZeros h x0 K) : Ct E yJ5_numberOfLeadingZeros cJ5_numberOfLeadingZeros 2 (Option.some Jvm.ClassFile.FieldType.int) 2 [vI x0] h (pI K) :=
  Ct.of GE (by decide +kernel) (by simp [lvA, t2]) rfl (fun X hX C Rr N => wk_J5_numberOfLeadingZeros C Rr N h x0 w)
def wp_J1_tableSizeFor_b31 (K : Int32 → Hp → Prop) (h : Hp) (s0 : Int32) : Prop :=
  (K s0 h)
set_option maxHeartbeats 4000000 in
theorem wk_J1_tableSizeFor_b31 {X : Fx} {K : Int32 → Hp → Prop} (C : Cx X cJ1_tableSizeFor yJ1_tableSizeFor.cls 2 3) (Rr : Rx X (Option.some Jvm.ClassFile.FieldType.int) (pI K)) (N : Nm X yJ1_tableSizeFor.name) (h : Hp) (s0 : Int32) (w : wp_J1_tableSizeFor_b31 K h s0) : Gd X h 31 [none, none] [vI s0] := by
  unfold wp_J1_tableSizeFor_b31 at w
  exact g_ireturn C Rr dJ1_tableSizeFor_31 ⟨_, rfl, w⟩
def wp_J1_tableSizeFor (h : Hp) (x0 : Int32) (K : Int32 → Hp → Prop) : Prop :=
  (wp_J5_numberOfLeadingZeros h (x0 - 1) (fun r9 h10 => Ex h h10 → ((0 ≤ (((-1) : Int32).toUInt32 >>> ((r9 : Int32).toUInt32 &&& Int32.toUInt32 31)).toInt32 → (((((-1) : Int32).toUInt32 >>> ((r9 : Int32).toUInt32 &&& Int32.toUInt32 31)).toInt32 < (1073741824 : Int32) → (wp_J1_tableSizeFor_b31 K h10 ((((-1) : Int32).toUInt32 >>> ((r9 : Int32).toUInt32 &&& Int32.toUInt32 31)).toInt32 + 1))) ∧ (¬ (((-1) : Int32).toUInt32 >>> ((r9 : Int32).toUInt32 &&& Int32.toUInt32 31)).toInt32 < (1073741824 : Int32) → (wp_J1_tableSizeFor_b31 K h10 (1073741824 : Int32))))) ∧ (¬ 0 ≤ (((-1) : Int32).toUInt32 >>> ((r9 : Int32).toUInt32 &&& Int32.toUInt32 31)).toInt32 → (wp_J1_tableSizeFor_b31 K h10 1)))))
set_option maxHeartbeats 4000000 in
theorem wk_J1_tableSizeFor {X : Fx} {K : Int32 → Hp → Prop} (C : Cx X cJ1_tableSizeFor yJ1_tableSizeFor.cls 2 3) (Rr : Rx X (Option.some Jvm.ClassFile.FieldType.int) (pI K)) (N : Nm X yJ1_tableSizeFor.name) (h : Hp) (x0 : Int32) (w : wp_J1_tableSizeFor h x0 K) : Gd X h 0 [some (vI x0), none] [] := by
  unfold wp_J1_tableSizeFor at w
  refine g_iconst 1 rfl C dJ1_tableSizeFor_0 (-1) rfl ?_
  refine g_iload_n 2 rfl C dJ1_tableSizeFor_1 rfl ?_
  refine g_iconst 3 rfl C dJ1_tableSizeFor_2 1 rfl ?_
  refine g_isub 4 rfl C dJ1_tableSizeFor_3 ?_
  refine g_callS (As := [vI _]) (st := [vI _]) 7 rfl C dJ1_tableSizeFor_4 q140 q141 q15 q142 okn_7fd632 (by decide) (by decide) (Nat.le_of_ble_eq_true rfl) rfl (ct_J5_numberOfLeadingZeros C.glob w) (fun r0 h10 p11 x12 _ => ?_)
  obtain ⟨r9, rfl, w⟩ := p11
  have w := w x12
  change Gd _ _ _ _ (vI r9 :: [vI _])
  refine g_iushr 8 rfl C dJ1_tableSizeFor_7 ?_
  refine g_istore_n 9 rfl C dJ1_tableSizeFor_8 (by decide) (rfl : _ = [some (vI _), some (vI _)]) ?_
  refine g_iload_n 10 rfl C dJ1_tableSizeFor_9 rfl ?_
  refine g_if_ge 13 17 rfl C dJ1_tableSizeFor_10 rfl (fun u13 => ?_) (fun u13 => ?_)
  · have w := w.1 u13
    refine g_iload_n 18 rfl C dJ1_tableSizeFor_17 rfl ?_
    refine g_ldc 20 rfl C dJ1_tableSizeFor_18 q133 ?_
    refine g_icmp_lt 23 28 rfl C dJ1_tableSizeFor_20 rfl (fun u14 => ?_) (fun u14 => ?_)
    · have w := w.1 u14
      refine g_iload_n 29 rfl C dJ1_tableSizeFor_28 rfl ?_
      refine g_iconst 30 rfl C dJ1_tableSizeFor_29 1 rfl ?_
      refine g_iadd 31 rfl C dJ1_tableSizeFor_30 ?_
      refine g_sub [none, none] [none] rfl rfl ?_
      exact wk_J1_tableSizeFor_b31 C Rr N _ _ w
    · have w := w.2 u14
      refine g_ldc 25 rfl C dJ1_tableSizeFor_23 q133 ?_
      refine g_goto 31 C dJ1_tableSizeFor_25 rfl ?_
      refine g_sub [none, none] [none] rfl rfl ?_
      exact wk_J1_tableSizeFor_b31 C Rr N _ _ w
  · have w := w.2 u13
    refine g_iconst 14 rfl C dJ1_tableSizeFor_13 1 rfl ?_
    refine g_goto 31 C dJ1_tableSizeFor_14 rfl ?_
    refine g_sub [none, none] [none] rfl rfl ?_
    exact wk_J1_tableSizeFor_b31 C Rr N _ _ w
theorem ct_J1_tableSizeFor {E : Gx} (GE : Glob E) {h : Hp} {x0 : Int32} {K : Int32 → Hp → Prop} (w : wp_J1_tableSizeFor h x0 K) : Ct E yJ1_tableSizeFor cJ1_tableSizeFor 2 (Option.some Jvm.ClassFile.FieldType.int) 3 [vI x0] h (pI K) :=
  Ct.of GE (by decide +kernel) (by simp [lvA, t2]) rfl (fun X hX C Rr N => wk_J1_tableSizeFor C Rr N h x0 w)
def wp_J4_isNaN_b11 (K : Int32 → Hp → Prop) (h : Hp) (s0 : Int32) : Prop :=
  ((s0 = 0 ∨ s0 = 1) ∧ K s0 h)
set_option maxHeartbeats 4000000 in
theorem wk_J4_isNaN_b11 {X : Fx} {K : Int32 → Hp → Prop} (C : Cx X cJ4_isNaN yJ4_isNaN.cls 1 2) (Rr : Rx X (Option.some Jvm.ClassFile.FieldType.boolean) (pI K)) (N : Nm X yJ4_isNaN.name) (h : Hp) (s0 : Int32) (w : wp_J4_isNaN_b11 K h s0) : Gd X h 11 [none] [vI s0] := by
  unfold wp_J4_isNaN_b11 at w
  exact g_zreturn C Rr dJ4_isNaN_11 w.1 ⟨_, rfl, w.2⟩
def wp_J4_isNaN (h : Hp) (x0 : UInt32) (K : Int32 → Hp → Prop) : Prop :=
  (((Op.cmpValue (FP.fcmp x0 x0) .l) = 0 → (wp_J4_isNaN_b11 K h 0)) ∧ (¬ (Op.cmpValue (FP.fcmp x0 x0) .l) = 0 → (wp_J4_isNaN_b11 K h 1)))
set_option maxHeartbeats 4000000 in
theorem wk_J4_isNaN {X : Fx} {K : Int32 → Hp → Prop} (C : Cx X cJ4_isNaN yJ4_isNaN.cls 1 2) (Rr : Rx X (Option.some Jvm.ClassFile.FieldType.boolean) (pI K)) (N : Nm X yJ4_isNaN.name) (h : Hp) (x0 : UInt32) (w : wp_J4_isNaN h x0 K) : Gd X h 0 [some (vF x0)] [] := by
  unfold wp_J4_isNaN at w
  refine g_fload_n 1 rfl C dJ4_isNaN_0 rfl ?_
  refine g_fload_n 2 rfl C dJ4_isNaN_1 rfl ?_
  refine g_fcmp 3 rfl C dJ4_isNaN_2 ?_
  refine g_if_eq 6 10 rfl C dJ4_isNaN_3 rfl (fun u2 => ?_) (fun u2 => ?_)
  · have w := w.1 u2
    refine g_iconst 11 rfl C dJ4_isNaN_10 0 rfl ?_
    refine g_sub [none] [none] rfl rfl ?_
    exact wk_J4_isNaN_b11 C Rr N _ _ w
  · have w := w.2 u2
    refine g_iconst 7 rfl C dJ4_isNaN_6 1 rfl ?_
    refine g_goto 11 C dJ4_isNaN_7 rfl ?_
    refine g_sub [none] [none] rfl rfl ?_
    exact wk_J4_isNaN_b11 C Rr N _ _ w
theorem ct_J4_isNaN {E : Gx} (GE : Glob E) {h : Hp} {x0 : UInt32} {K : Int32 → Hp → Prop} (w : wp_J4_isNaN h x0 K) : Ct E yJ4_isNaN cJ4_isNaN 1 (Option.some Jvm.ClassFile.FieldType.boolean) 2 [vF x0] h (pI K) :=
  Ct.ofF GE (by decide +kernel) (by simp [lvA, t2]) rfl (fun X hX C Rr N => wk_J4_isNaN C Rr N h x0 w)
def wp_J1_init_2_b57 (K : Hp → Prop) (h : Hp)  : Prop :=
  False
set_option maxHeartbeats 4000000 in
theorem wk_J1_init_2_b57 {X : Fx} {K : Hp → Prop} (C : Cx X cJ1_init_2 yJ1_init_2.cls 3 4) (Rr : Rx X (Option.none : Option Jvm.ClassFile.FieldType) (pV K)) (N : Nm X yJ1_init_2.name) (h : Hp)  (w : wp_J1_init_2_b57 K h ) : Gd X h 57 [none, none, none] [] := by
  unfold wp_J1_init_2_b57 at w
  exact w.elim
def wp_J1_init_2_b44 (K : Hp → Prop) (h : Hp) (l0 : Option Nat) (l1 : Int32) (l2 : UInt32) : Prop :=
  (((Op.cmpValue (FP.fcmp l2 (FP.fconst0)) .g) ≤ 0 → (wp_J1_init_2_b57 K h)) ∧ (¬ (Op.cmpValue (FP.fcmp l2 (FP.fconst0)) .g) ≤ 0 → (wp_J4_isNaN h l2 (fun r39 h40 => Ex h h40 → ((r39 = 0 → (∃ a44, l0 = some a44 ∧ (∀ h46, h46 = wI h40 18 a44 l2.toInt32 → (wp_J1_tableSizeFor h46 l1 (fun r48 h49 => Ex h46 h49 → (∀ h52, h52 = wI h49 17 a44 r48 → (K h52))))))) ∧ (¬ r39 = 0 → (wp_J1_init_2_b57 K h40)))))))
set_option maxHeartbeats 4000000 in
theorem wk_J1_init_2_b44 {X : Fx} {K : Hp → Prop} (C : Cx X cJ1_init_2 yJ1_init_2.cls 3 4) (Rr : Rx X (Option.none : Option Jvm.ClassFile.FieldType) (pV K)) (N : Nm X yJ1_init_2.name) (h : Hp) (l0 : Option Nat) (l1 : Int32) (l2 : UInt32) (w : wp_J1_init_2_b44 K h l0 l1 l2) : Gd X h 44 [some (vR [2, 3] l0), some (vI l1), some (vF l2)] [] := by
  unfold wp_J1_init_2_b44 at w
  refine g_fload_n 45 rfl C dJ1_init_2_44 rfl ?_
  refine g_fconst0 46 rfl C dJ1_init_2_45 ?_
  refine g_fcmp 47 rfl C dJ1_init_2_46 ?_
  refine g_if_le 50 57 rfl C dJ1_init_2_47 rfl (fun u37 => ?_) (fun u37 => ?_)
  · have w := w.1 u37
    refine g_sub [none, none, none] [] rfl rfl ?_
    exact wk_J1_init_2_b57 C Rr N _ w
  · have w := w.2 u37
    refine g_fload_n 51 rfl C dJ1_init_2_50 rfl ?_
    refine g_callS (As := [vF _]) (st := []) 54 rfl C dJ1_init_2_51 q134 q135 q14 q136 okn_fafebc (by decide) (by decide) (Nat.le_of_ble_eq_true rfl) rfl (ct_J4_isNaN C.glob w) (fun r0 h40 p41 x42 _ => ?_)
    obtain ⟨r39, rfl, w⟩ := p41
    have w := w x42
    change Gd _ _ _ _ (vI r39 :: [])
    refine g_if_eq 57 84 rfl C dJ1_init_2_54 rfl (fun u43 => ?_) (fun u43 => ?_)
    · have w := w.1 u43
      refine g_aload_n 85 rfl C dJ1_init_2_84 rfl ?_
      refine g_fload_n 86 rfl C dJ1_init_2_85 rfl ?_
      obtain ⟨a44, e45, w⟩ := w
      refine g_putFF 89 rfl C N dJ1_init_2_86 fl_HashMap_81 ⟨rfl, rfl⟩ rfl e45 rfl ?_
      have w := w _ rfl
      refine g_aload_n 90 rfl C dJ1_init_2_89 rfl ?_
      refine g_iload_n 91 rfl C dJ1_init_2_90 rfl ?_
      refine g_callS (As := [vI _]) (st := [vR [2, 3] _]) 94 rfl C dJ1_init_2_91 q137 q138 q11 q139 okn_e6c13a (by decide) (by decide) (Nat.le_of_ble_eq_true rfl) rfl (ct_J1_tableSizeFor C.glob w) (fun r0 h49 p50 x51 _ => ?_)
      obtain ⟨r48, rfl, w⟩ := p50
      have w := w x51
      change Gd _ _ _ _ (vI r48 :: [vR [2, 3] _])
      refine g_putI 97 rfl C dJ1_init_2_94 fl_HashMap_88 rfl rfl e45 rfl ?_
      have w := w _ rfl
      exact g_vreturn C Rr dJ1_init_2_97 ⟨rfl, w⟩
    · have w := w.2 u43
      refine g_sub [none, none, none] [] rfl rfl ?_
      exact wk_J1_init_2_b57 C Rr N _ w
def wp_J1_init_2 (h : Hp) (x0 : Option Nat) (x1 : Int32) (x2 : UInt32) (K : Hp → Prop) : Prop :=
  (∃ a28, x0 = some a28 ∧ (wp_J0_init h x0 (fun h32 => Ex h h32 → ((0 ≤ x1 → ((x1 ≤ (1073741824 : Int32) → (wp_J1_init_2_b44 K h32 x0 x1 x2)) ∧ (¬ x1 ≤ (1073741824 : Int32) → (wp_J1_init_2_b44 K h32 x0 (1073741824 : Int32) x2)))) ∧ (¬ 0 ≤ x1 → False)))))
set_option maxHeartbeats 4000000 in
theorem wk_J1_init_2 {X : Fx} {K : Hp → Prop} (C : Cx X cJ1_init_2 yJ1_init_2.cls 3 4) (Rr : Rx X (Option.none : Option Jvm.ClassFile.FieldType) (pV K)) (N : Nm X yJ1_init_2.name) (h : Hp) (x0 : Option Nat) (x1 : Int32) (x2 : UInt32) (w : wp_J1_init_2 h x0 x1 x2 K) : Gd X h 0 [some (vR [2, 3] x0), some (vI x1), some (vF x2)] [] := by
  unfold wp_J1_init_2 at w
  refine g_aload_n 1 rfl C dJ1_init_2_0 rfl ?_
  obtain ⟨a28, e29, w⟩ := w
  refine g_callI (As := []) (T := [2, 3]) (st := []) 4 rfl C dJ1_init_2_1 q52 q53 q10 q54 rfl okn_160e58 (by decide) (by decide) (Nat.le_of_ble_eq_true rfl) e29 rfl (ct_J0_init C.glob w) (fun r0 h32 p33 x34 _ => ?_)
  obtain ⟨rfl, w⟩ := p33
  have w := w x34
  change Gd _ _ _ _ []
  refine g_iload_n 5 rfl C dJ1_init_2_4 rfl ?_
  refine g_if_ge 8 35 rfl C dJ1_init_2_5 rfl (fun u35 => ?_) (fun u35 => ?_)
  · have w := w.1 u35
    refine g_iload_n 36 rfl C dJ1_init_2_35 rfl ?_
    refine g_ldc 38 rfl C dJ1_init_2_36 q133 ?_
    refine g_icmp_le 41 44 rfl C dJ1_init_2_38 rfl (fun u36 => ?_) (fun u36 => ?_)
    · have w := w.1 u36
      refine g_sub [some none, some none, some none] [] rfl rfl ?_
      exact wk_J1_init_2_b44 C Rr N _ _ _ _ w
    · have w := w.2 u36
      refine g_ldc 43 rfl C dJ1_init_2_41 q133 ?_
      refine g_istore_n 44 rfl C dJ1_init_2_43 (by decide) (rfl : _ = [some (vR [2, 3] _), some (vI _), some (vF _)]) ?_
      refine g_sub [some none, some none, some none] [] rfl rfl ?_
      exact wk_J1_init_2_b44 C Rr N _ _ _ _ w
  · have w := w.2 u35
    exact w.elim
theorem ct_J1_init_2 {E : Gx} (GE : Glob E) {h : Hp} {x0 : Option Nat} {x1 : Int32} {x2 : UInt32} {K : Hp → Prop} (w : wp_J1_init_2 h x0 x1 x2 K) : Ct E yJ1_init_2 cJ1_init_2 3 (Option.none : Option Jvm.ClassFile.FieldType) 4 [vR [2, 3] x0, vI x1, vF x2] h (pV K) :=
  Ct.of GE (by decide +kernel) (by simp [lvA, t2]) rfl (fun X hX C Rr N => wk_J1_init_2 C Rr N h x0 x1 x2 w)
def wp_J6_init (h : Hp) (x0 : Option Nat) (x1 : Int32) (x2 : Option Nat) (x3 : Option Nat) (x4 : Option Nat) (K : Hp → Prop) : Prop :=
  (∃ a15, x0 = some a15 ∧ (∀ h17, h17 = wI h 0 a15 x1 → (∀ h18, h18 = wR h17 1 a15 x2 → (∀ h19, h19 = wR h18 2 a15 x3 → (∀ h20, h20 = wR h19 3 a15 x4 → (K h20))))))
set_option maxHeartbeats 4000000 in
theorem wk_J6_init {X : Fx} {K : Hp → Prop} (C : Cx X cJ6_init yJ6_init.cls 5 2) (Rr : Rx X (Option.none : Option Jvm.ClassFile.FieldType) (pV K)) (N : Nm X yJ6_init.name) (h : Hp) (x0 : Option Nat) (x1 : Int32) (x2 : Option Nat) (x3 : Option Nat) (x4 : Option Nat) (w : wp_J6_init h x0 x1 x2 x3 x4 K) : Gd X h 0 [some (vR [5, 6, 7] x0), some (vI x1), some (vR [4, 60] x2), some (vR [4, 60] x3), some (vR [5, 6, 7] x4)] [] := by
  unfold wp_J6_init at w
  refine g_aload_n 1 rfl C dJ6_init_0 rfl ?_
  obtain ⟨a15, e16, w⟩ := w
  refine g_objInit 4 rfl C dJ6_init_1 q247 q45 q46 (by decide) (Nat.le_of_ble_eq_true rfl) e16 ?_
  refine g_aload_n 5 rfl C dJ6_init_4 rfl ?_
  refine g_iload_n 6 rfl C dJ6_init_5 rfl ?_
  refine g_putIF 9 rfl C N dJ6_init_6 fl_HashMap_Node_7 ⟨rfl, rfl⟩ rfl e16 rfl ?_
  have w := w _ rfl
  refine g_aload_n 10 rfl C dJ6_init_9 rfl ?_
  refine g_aload_n 11 rfl C dJ6_init_10 rfl ?_
  refine g_putRF 14 rfl C N dJ6_init_11 fl_HashMap_Node_13 ⟨rfl, rfl⟩ rfl rfl e16 rfl ?_
  have w := w _ rfl
  refine g_aload_n 15 rfl C dJ6_init_14 rfl ?_
  refine g_aload_n 16 rfl C dJ6_init_15 rfl ?_
  refine g_putR 19 rfl C dJ6_init_16 fl_HashMap_Node_17 rfl rfl rfl e16 rfl ?_
  have w := w _ rfl
  refine g_aload_n 20 rfl C dJ6_init_19 rfl ?_
  refine g_aload 22 rfl C dJ6_init_20 rfl ?_
  refine g_putR 25 rfl C dJ6_init_22 fl_HashMap_Node_20 rfl rfl rfl e16 rfl ?_
  have w := w _ rfl
  exact g_vreturn C Rr dJ6_init_25 ⟨rfl, w⟩
theorem ct_J6_init {E : Gx} (GE : Glob E) {h : Hp} {x0 : Option Nat} {x1 : Int32} {x2 : Option Nat} {x3 : Option Nat} {x4 : Option Nat} {K : Hp → Prop} (w : wp_J6_init h x0 x1 x2 x3 x4 K) : Ct E yJ6_init cJ6_init 5 (Option.none : Option Jvm.ClassFile.FieldType) 2 [vR [5, 6, 7] x0, vI x1, vR [4, 60] x2, vR [4, 60] x3, vR [5, 6, 7] x4] h (pV K) :=
  Ct.of GE (by decide +kernel) (by simp [lvA, t2]) rfl (fun X hX C Rr N => wk_J6_init C Rr N h x0 x1 x2 x3 x4 w)
def wp_J1_replacementNode (h : Hp) (x0 : Option Nat) (x1 : Option Nat) (x2 : Option Nat) (K : Option Nat → Hp → Prop) : Prop :=
  (Rm h 1 4 ∧ ∀ a18, kd h a18 = 0 → ∀ h19, h19 = nw h a18 5 0 → (∃ a22, x1 = some a22 ∧ (wp_J6_init h19 (some a18) (it h19 0 a22) (rf h19 1 a22) (rf h19 2 a22) x2 (fun h26 => Ex h19 h26 → (K (some a18) h26)))))
set_option maxHeartbeats 4000000 in
theorem wk_J1_replacementNode {X : Fx} {K : Option Nat → Hp → Prop} (C : Cx X cJ1_replacementNode yJ1_replacementNode.cls 3 3) (Rr : Rx X (Option.some (Jvm.ClassFile.FieldType.object "java/util/HashMap$Node")) (pR [5, 6, 7] K)) (N : Nm X yJ1_replacementNode.name) (h : Hp) (x0 : Option Nat) (x1 : Option Nat) (x2 : Option Nat) (w : wp_J1_replacementNode h x0 x1 x2 K) : Gd X h 0 [some (vR [2, 3] x0), some (vR [5, 6, 7] x1), some (vR [5, 6, 7] x2)] [] := by
  unfold wp_J1_replacementNode at w
  obtain ⟨r20, w⟩ := w
  refine g_new 5 3 rfl C dJ1_replacementNode_0 rfl q220 q299 q19 r20 (fun a18 z21 => ?_)
  have w := w a18 z21 _ rfl
  refine g_dup 4 rfl C dJ1_replacementNode_3 rfl ?_
  refine g_aload_n 5 rfl C dJ1_replacementNode_4 rfl ?_
  obtain ⟨a22, e23, w⟩ := w
  refine g_getI 8 rfl C dJ1_replacementNode_5 fl_HashMap_168 rfl e23 rfl ?_
  refine g_aload_n 9 rfl C dJ1_replacementNode_8 rfl ?_
  refine g_getR 12 rfl C dJ1_replacementNode_9 fl_HashMap_170 rfl e23 rfl ?_
  refine g_aload_n 13 rfl C dJ1_replacementNode_12 rfl ?_
  refine g_getR 16 rfl C dJ1_replacementNode_13 fl_HashMap_162 rfl e23 rfl ?_
  refine g_aload_n 17 rfl C dJ1_replacementNode_16 rfl ?_
  refine g_sub [some none, some none, some none] [none, none, none, none, some [5, 6, 7]] rfl rfl ?_
  refine g_callI (As := [vI _, vR [4, 60] _, vR [4, 60] _, vR [5, 6, 7] _]) (T := [5, 6, 7]) (st := [vR [5] _]) 20 rfl C dJ1_replacementNode_17 q300 q245 q19 q246 rfl okn_6a5659 (by decide) (by decide) (Nat.le_of_ble_eq_true rfl) rfl rfl (ct_J6_init C.glob w) (fun r0 h26 p27 x28 _ => ?_)
  obtain ⟨rfl, w⟩ := p27
  have w := w x28
  change Gd _ _ _ _ [vR [5] _]
  exact g_areturn [5, 6, 7] C Rr rfl dJ1_replacementNode_20 rfl ⟨_, rfl, w⟩
theorem ct_J1_replacementNode {E : Gx} (GE : Glob E) {h : Hp} {x0 : Option Nat} {x1 : Option Nat} {x2 : Option Nat} {K : Option Nat → Hp → Prop} (w : wp_J1_replacementNode h x0 x1 x2 K) : Ct E yJ1_replacementNode cJ1_replacementNode 3 (Option.some (Jvm.ClassFile.FieldType.object "java/util/HashMap$Node")) 3 [vR [2, 3] x0, vR [5, 6, 7] x1, vR [5, 6, 7] x2] h (pR [5, 6, 7] K) :=
  Ct.of GE (by decide +kernel) (by simp [lvA, t2]) rfl (fun X hX C Rr N => wk_J1_replacementNode C Rr N h x0 x1 x2 w)
def wp_J2_transferLinks_b57 (K : Hp → Prop) (h : Hp)  : Prop :=
  (K h)
set_option maxHeartbeats 4000000 in
theorem wk_J2_transferLinks_b57 {X : Fx} {K : Hp → Prop} (C : Cx X cJ2_transferLinks yJ2_transferLinks.cls 5 2) (Rr : Rx X (Option.none : Option Jvm.ClassFile.FieldType) (pV K)) (N : Nm X yJ2_transferLinks.name) (h : Hp)  (w : wp_J2_transferLinks_b57 K h ) : Gd X h 57 [none, none, none, none, none] [] := by
  unfold wp_J2_transferLinks_b57 at w
  exact g_vreturn C Rr dJ2_transferLinks_57 ⟨rfl, w⟩
def wp_J2_transferLinks_b38 (K : Hp → Prop) (h : Hp) (l0 : Option Nat) (l2 : Option Nat) (l4 : Option Nat) : Prop :=
  ((l4 = none → (∃ a41, l0 = some a41 ∧ (∀ h43, h43 = wR h 20 a41 l2 → (wp_J2_transferLinks_b57 K h43)))) ∧ (∀ a40, l4 = some a40 → (∀ h44, h44 = wR h 4 a40 l2 → (wp_J2_transferLinks_b57 K h44))))
set_option maxHeartbeats 4000000 in
theorem wk_J2_transferLinks_b38 {X : Fx} {K : Hp → Prop} (C : Cx X cJ2_transferLinks yJ2_transferLinks.cls 5 2) (Rr : Rx X (Option.none : Option Jvm.ClassFile.FieldType) (pV K)) (N : Nm X yJ2_transferLinks.name) (h : Hp) (l0 : Option Nat) (l2 : Option Nat) (l4 : Option Nat) (w : wp_J2_transferLinks_b38 K h l0 l2 l4) : Gd X h 38 [some (vR [3] l0), none, some (vR [6, 7] l2), none, some (vR [6, 7] l4)] [] := by
  unfold wp_J2_transferLinks_b38 at w
  refine g_aload 40 rfl C dJ2_transferLinks_38 rfl ?_
  refine g_ifnonnull 43 51 rfl C dJ2_transferLinks_40 rfl (fun a40 u39 => ?_) (fun u39 => ?_)
  · have w := w.2 a40 u39
    refine g_aload 53 rfl C dJ2_transferLinks_51 rfl ?_
    refine g_aload_n 54 rfl C dJ2_transferLinks_53 rfl ?_
    refine g_putR 57 rfl C dJ2_transferLinks_54 fl_LinkedHashMap_19 rfl rfl rfl u39 rfl ?_
    have w := w _ rfl
    refine g_sub [none, none, none, none, none] [] rfl rfl ?_
    exact wk_J2_transferLinks_b57 C Rr N _ w
  · have w := w.1 u39
    refine g_aload_n 44 rfl C dJ2_transferLinks_43 rfl ?_
    refine g_aload_n 45 rfl C dJ2_transferLinks_44 rfl ?_
    obtain ⟨a41, e42, w⟩ := w
    refine g_putR 48 rfl C dJ2_transferLinks_45 fl_LinkedHashMap_11 rfl rfl rfl e42 rfl ?_
    have w := w _ rfl
    refine g_goto 57 C dJ2_transferLinks_48 rfl ?_
    refine g_sub [none, none, none, none, none] [] rfl rfl ?_
    exact wk_J2_transferLinks_b57 C Rr N _ w
def wp_J2_transferLinks (h : Hp) (x0 : Option Nat) (x1 : Option Nat) (x2 : Option Nat) (K : Hp → Prop) : Prop :=
  (∃ a27, x1 = some a27 ∧ (∃ a29, x2 = some a29 ∧ (∀ h31, h31 = wR h 4 a29 (rf h 4 a27) → (∀ h32, h32 = wR h31 5 a29 (rf h31 5 a27) → (((rf h 4 a27) = none → (∃ a35, x0 = some a35 ∧ (∀ h37, h37 = wR h32 19 a35 x2 → (wp_J2_transferLinks_b38 K h37 x0 x2 (rf h31 5 a27))))) ∧ (∀ a34, (rf h 4 a27) = some a34 → (∀ h38, h38 = wR h32 5 a34 x2 → (wp_J2_transferLinks_b38 K h38 x0 x2 (rf h31 5 a27)))))))))
set_option maxHeartbeats 4000000 in
theorem wk_J2_transferLinks {X : Fx} {K : Hp → Prop} (C : Cx X cJ2_transferLinks yJ2_transferLinks.cls 5 2) (Rr : Rx X (Option.none : Option Jvm.ClassFile.FieldType) (pV K)) (N : Nm X yJ2_transferLinks.name) (h : Hp) (x0 : Option Nat) (x1 : Option Nat) (x2 : Option Nat) (w : wp_J2_transferLinks h x0 x1 x2 K) : Gd X h 0 [some (vR [3] x0), some (vR [6, 7] x1), some (vR [6, 7] x2), none, none] [] := by
  unfold wp_J2_transferLinks at w
  refine g_aload_n 1 rfl C dJ2_transferLinks_0 rfl ?_
  refine g_aload_n 2 rfl C dJ2_transferLinks_1 rfl ?_
  obtain ⟨a27, e28, w⟩ := w
  refine g_getR 5 rfl C dJ2_transferLinks_2 fl_LinkedHashMap_19 rfl e28 rfl ?_
  refine g_dup_x1 6 rfl C dJ2_transferLinks_5 rfl rfl ?_
  obtain ⟨a29, e30, w⟩ := w
  refine g_putR 9 rfl C dJ2_transferLinks_6 fl_LinkedHashMap_19 rfl rfl rfl e30 rfl ?_
  have w := w _ rfl
  refine g_astore_n 10 rfl C dJ2_transferLinks_9 (by decide) (rfl : _ = [some (vR [3] _), some (vR [6, 7] _), some (vR [6, 7] _), some (vR [6, 7] _), none]) ?_
  refine g_aload_n 11 rfl C dJ2_transferLinks_10 rfl ?_
  refine g_aload_n 12 rfl C dJ2_transferLinks_11 rfl ?_
  refine g_getR 15 rfl C dJ2_transferLinks_12 fl_LinkedHashMap_14 rfl e28 rfl ?_
  refine g_dup_x1 16 rfl C dJ2_transferLinks_15 rfl rfl ?_
  refine g_putR 19 rfl C dJ2_transferLinks_16 fl_LinkedHashMap_14 rfl rfl rfl e30 rfl ?_
  have w := w _ rfl
  refine g_astore 21 rfl C dJ2_transferLinks_19 (by decide) (rfl : _ = [some (vR [3] _), some (vR [6, 7] _), some (vR [6, 7] _), some (vR [6, 7] _), some (vR [6, 7] _)]) ?_
  refine g_aload_n 22 rfl C dJ2_transferLinks_21 rfl ?_
  refine g_ifnonnull 25 33 rfl C dJ2_transferLinks_22 rfl (fun a34 u33 => ?_) (fun u33 => ?_)
  · have w := w.2 a34 u33
    refine g_aload_n 34 rfl C dJ2_transferLinks_33 rfl ?_
    refine g_aload_n 35 rfl C dJ2_transferLinks_34 rfl ?_
    refine g_putR 38 rfl C dJ2_transferLinks_35 fl_LinkedHashMap_14 rfl rfl rfl u33 rfl ?_
    have w := w _ rfl
    refine g_sub [some none, none, some none, none, some none] [] rfl rfl ?_
    exact wk_J2_transferLinks_b38 C Rr N _ _ _ _ w
  · have w := w.1 u33
    refine g_aload_n 26 rfl C dJ2_transferLinks_25 rfl ?_
    refine g_aload_n 27 rfl C dJ2_transferLinks_26 rfl ?_
    obtain ⟨a35, e36, w⟩ := w
    refine g_putR 30 rfl C dJ2_transferLinks_27 fl_LinkedHashMap_7 rfl rfl rfl e36 rfl ?_
    have w := w _ rfl
    refine g_goto 38 C dJ2_transferLinks_30 rfl ?_
    refine g_sub [some none, none, some none, none, some none] [] rfl rfl ?_
    exact wk_J2_transferLinks_b38 C Rr N _ _ _ _ w
theorem ct_J2_transferLinks {E : Gx} (GE : Glob E) {h : Hp} {x0 : Option Nat} {x1 : Option Nat} {x2 : Option Nat} {K : Hp → Prop} (w : wp_J2_transferLinks h x0 x1 x2 K) : Ct E yJ2_transferLinks cJ2_transferLinks 5 (Option.none : Option Jvm.ClassFile.FieldType) 2 [vR [3] x0, vR [6, 7] x1, vR [6, 7] x2] h (pV K) :=
  Ct.of GE (by decide +kernel) (by simp [lvA, t2]) rfl (fun X hX C Rr N => wk_J2_transferLinks C Rr N h x0 x1 x2 w)
def wp_J7_init (h : Hp) (x0 : Option Nat) (x1 : Int32) (x2 : Option Nat) (x3 : Option Nat) (x4 : Option Nat) (K : Hp → Prop) : Prop :=
  (∃ a8, x0 = some a8 ∧ (wp_J6_init h x0 x1 x2 x3 x4 (fun h12 => Ex h h12 → (K h12))))
set_option maxHeartbeats 4000000 in
theorem wk_J7_init {X : Fx} {K : Hp → Prop} (C : Cx X cJ7_init yJ7_init.cls 5 3) (Rr : Rx X (Option.none : Option Jvm.ClassFile.FieldType) (pV K)) (N : Nm X yJ7_init.name) (h : Hp) (x0 : Option Nat) (x1 : Int32) (x2 : Option Nat) (x3 : Option Nat) (x4 : Option Nat) (w : wp_J7_init h x0 x1 x2 x3 x4 K) : Gd X h 0 [some (vR [6, 7] x0), some (vI x1), some (vR [4, 60] x2), some (vR [4, 60] x3), some (vR [5, 6, 7] x4)] [] := by
  unfold wp_J7_init at w
  refine g_aload_n 1 rfl C dJ7_init_0 rfl ?_
  refine g_iload_n 2 rfl C dJ7_init_1 rfl ?_
  refine g_aload_n 3 rfl C dJ7_init_2 rfl ?_
  refine g_aload_n 4 rfl C dJ7_init_3 rfl ?_
  refine g_aload 6 rfl C dJ7_init_4 rfl ?_
  obtain ⟨a8, e9, w⟩ := w
  refine g_sub [some none, some none, some none, some none, some none] [none, none, none, none, some [5, 6, 7]] rfl rfl ?_
  refine g_callI (As := [vI _, vR [4, 60] _, vR [4, 60] _, vR [5, 6, 7] _]) (T := [5, 6, 7]) (st := []) 9 rfl C dJ7_init_6 q244 q245 q19 q246 rfl okn_6a5659 (by decide) (by decide) (Nat.le_of_ble_eq_true rfl) e9 rfl (ct_J6_init C.glob w) (fun r0 h12 p13 x14 _ => ?_)
  obtain ⟨rfl, w⟩ := p13
  have w := w x14
  change Gd _ _ _ _ []
  exact g_vreturn C Rr dJ7_init_9 ⟨rfl, w⟩
theorem ct_J7_init {E : Gx} (GE : Glob E) {h : Hp} {x0 : Option Nat} {x1 : Int32} {x2 : Option Nat} {x3 : Option Nat} {x4 : Option Nat} {K : Hp → Prop} (w : wp_J7_init h x0 x1 x2 x3 x4 K) : Ct E yJ7_init cJ7_init 5 (Option.none : Option Jvm.ClassFile.FieldType) 3 [vR [6, 7] x0, vI x1, vR [4, 60] x2, vR [4, 60] x3, vR [5, 6, 7] x4] h (pV K) :=
  Ct.of GE (by decide +kernel) (by simp [lvA, t2]) rfl (fun X hX C Rr N => wk_J7_init C Rr N h x0 x1 x2 x3 x4 w)
def wp_J2_replacementNode (h : Hp) (x0 : Option Nat) (x1 : Option Nat) (x2 : Option Nat) (K : Option Nat → Hp → Prop) : Prop :=
  ((∀ a, x1 = some a → kd h a ∈ [6, 7]) ∧ (Rm h 1 6 ∧ ∀ a27, kd h a27 = 0 → ∀ h28, h28 = nw h a27 6 0 → (∃ a31, x1 = some a31 ∧ (wp_J7_init h28 (some a27) (it h28 0 a31) (rf h28 1 a31) (rf h28 2 a31) x2 (fun h35 => Ex h28 h35 → (∃ a38, x0 = some a38 ∧ (wp_J2_transferLinks h35 x0 x1 (some a27) (fun h42 => Ex h35 h42 → (K (some a27) h42)))))))))
set_option maxHeartbeats 4000000 in
theorem wk_J2_replacementNode {X : Fx} {K : Option Nat → Hp → Prop} (C : Cx X cJ2_replacementNode yJ2_replacementNode.cls 5 4) (Rr : Rx X (Option.some (Jvm.ClassFile.FieldType.object "java/util/HashMap$Node")) (pR [5, 6, 7] K)) (N : Nm X yJ2_replacementNode.name) (h : Hp) (x0 : Option Nat) (x1 : Option Nat) (x2 : Option Nat) (w : wp_J2_replacementNode h x0 x1 x2 K) : Gd X h 0 [some (vR [3] x0), some (vR [5, 6, 7] x1), some (vR [5, 6, 7] x2), none, none] [] := by
  unfold wp_J2_replacementNode at w
  refine g_aload_n 1 rfl C dJ2_replacementNode_0 rfl ?_
  obtain ⟨k26, w⟩ := w
  refine g_cast [6, 7] 4 rfl C dJ2_replacementNode_1 q239 co_LinkedHashMap_Entry_6_7 (fun a q _ => k26 a q) ?_
  refine g_astore_n 5 rfl C dJ2_replacementNode_4 (by decide) (rfl : _ = [some (vR [3] _), some (vR [5, 6, 7] _), some (vR [5, 6, 7] _), some (vR [6, 7] _), none]) ?_
  obtain ⟨r29, w⟩ := w
  refine g_new 6 8 rfl C dJ2_replacementNode_5 rfl q239 q240 q20 r29 (fun a27 z30 => ?_)
  have w := w a27 z30 _ rfl
  refine g_dup 9 rfl C dJ2_replacementNode_8 rfl ?_
  refine g_aload_n 10 rfl C dJ2_replacementNode_9 rfl ?_
  obtain ⟨a31, e32, w⟩ := w
  refine g_getI 13 rfl C dJ2_replacementNode_10 fl_LinkedHashMap_36 rfl e32 rfl ?_
  refine g_aload_n 14 rfl C dJ2_replacementNode_13 rfl ?_
  refine g_getR 17 rfl C dJ2_replacementNode_14 fl_LinkedHashMap_39 rfl e32 rfl ?_
  refine g_aload_n 18 rfl C dJ2_replacementNode_17 rfl ?_
  refine g_getR 21 rfl C dJ2_replacementNode_18 fl_LinkedHashMap_43 rfl e32 rfl ?_
  refine g_aload_n 22 rfl C dJ2_replacementNode_21 rfl ?_
  refine g_sub [some none, some none, some none, some none, none] [none, none, none, none, some [6, 7]] rfl rfl ?_
  refine g_callI (As := [vI _, vR [4, 60] _, vR [4, 60] _, vR [5, 6, 7] _]) (T := [6, 7]) (st := [vR [6] _]) 25 rfl C dJ2_replacementNode_22 q241 q242 q20 q243 rfl okn_2abc05 (by decide) (by decide) (Nat.le_of_ble_eq_true rfl) rfl rfl (ct_J7_init C.glob w) (fun r0 h35 p36 x37 _ => ?_)
  obtain ⟨rfl, w⟩ := p36
  have w := w x37
  change Gd _ _ _ _ [vR [6] _]
  refine g_astore 27 rfl C dJ2_replacementNode_25 (by decide) (rfl : _ = [some (vR [3] _), some (vR [5, 6, 7] _), some (vR [5, 6, 7] _), some (vR [6, 7] _), some (vR [6] _)]) ?_
  refine g_aload_n 28 rfl C dJ2_replacementNode_27 rfl ?_
  refine g_aload_n 29 rfl C dJ2_replacementNode_28 rfl ?_
  refine g_aload 31 rfl C dJ2_replacementNode_29 rfl ?_
  obtain ⟨a38, e39, w⟩ := w
  refine g_sub [some none, some none, some none, some none, some none] [some [6, 7], none, none] rfl rfl ?_
  refine g_callV (As := [vR [6, 7] _, vR [6, 7] _]) (T := [3]) (st := []) "java/util/LinkedHashMap" 34 rfl C dJ2_replacementNode_31 q294 q296 qs1 q12 q297 rfl okn_dad909 (by decide) (by decide) (Nat.le_of_ble_eq_true rfl) e39 (fun q => tC rfl q) rfl (ct_J2_transferLinks C.glob w) (fun r0 h42 p43 x44 _ => ?_)
  obtain ⟨rfl, w⟩ := p43
  have w := w x44
  change Gd _ _ _ _ []
  refine g_aload 36 rfl C dJ2_replacementNode_34 rfl ?_
  exact g_areturn [5, 6, 7] C Rr rfl dJ2_replacementNode_36 rfl ⟨_, rfl, w⟩
theorem ct_J2_replacementNode {E : Gx} (GE : Glob E) {h : Hp} {x0 : Option Nat} {x1 : Option Nat} {x2 : Option Nat} {K : Option Nat → Hp → Prop} (w : wp_J2_replacementNode h x0 x1 x2 K) : Ct E yJ2_replacementNode cJ2_replacementNode 5 (Option.some (Jvm.ClassFile.FieldType.object "java/util/HashMap$Node")) 4 [vR [3] x0, vR [5, 6, 7] x1, vR [5, 6, 7] x2] h (pR [5, 6, 7] K) :=
  Ct.of GE (by decide +kernel) (by simp [lvA, t2]) rfl (fun X hX C Rr N => wk_J2_replacementNode C Rr N h x0 x1 x2 w)
def wp_J8_untreeify_b37 (G7 : Hp → Option Nat → Option Nat → Option Nat → Option Nat → Prop) (K : Option Nat → Hp → Prop) (h : Hp) (l1 : Option Nat) (l2 : Option Nat) (l4 : Option Nat) (l5 : Option Nat) : Prop :=
  (∃ a73, l4 = some a73 ∧ (G7 h l1 l2 l5 (rf h 3 a73)))
set_option maxHeartbeats 4000000 in
theorem wk_J8_untreeify_b37 {X : Fx} {K : Option Nat → Hp → Prop} (C : Cx X cJ8_untreeify yJ8_untreeify.cls 6 5) (Rr : Rx X (Option.some (Jvm.ClassFile.FieldType.object "java/util/HashMap$Node")) (pR [5, 6, 7] K)) (N : Nm X yJ8_untreeify.name) {G7 : Hp → Option Nat → Option Nat → Option Nat → Option Nat → Prop} (k7 : ∀ (h : Hp) (l1 : Option Nat) (l2 : Option Nat) (l3 : Option Nat) (l4 : Option Nat), G7 h l1 l2 l3 l4 → Gd X h 7 [none, some (vR [2, 3] l1), some (vR [5, 6, 7] l2), some (vR [5, 6, 7] l3), some (vR [5, 6, 7] l4), none] []) (h : Hp) (l1 : Option Nat) (l2 : Option Nat) (l4 : Option Nat) (l5 : Option Nat) (w : wp_J8_untreeify_b37 G7 K h l1 l2 l4 l5) : Gd X h 37 [none, some (vR [2, 3] l1), some (vR [5, 6, 7] l2), none, some (vR [5, 6, 7] l4), some (vR [5, 6, 7] l5)] [] := by
  unfold wp_J8_untreeify_b37 at w
  refine g_aload 39 rfl C dJ8_untreeify_37 rfl ?_
  refine g_astore_n 40 rfl C dJ8_untreeify_39 (by decide) (rfl : _ = [none, some (vR [2, 3] _), some (vR [5, 6, 7] _), some (vR [5, 6, 7] _), some (vR [5, 6, 7] _), some (vR [5, 6, 7] _)]) ?_
  refine g_aload 42 rfl C dJ8_untreeify_40 rfl ?_
  obtain ⟨a73, e74, w⟩ := w
  refine g_getR 45 rfl C dJ8_untreeify_42 fl_HashMap_TreeNode_112 rfl e74 rfl ?_
  refine g_astore 47 rfl C dJ8_untreeify_45 (by decide) (rfl : _ = [none, some (vR [2, 3] _), some (vR [5, 6, 7] _), some (vR [5, 6, 7] _), some (vR [5, 6, 7] _), some (vR [5, 6, 7] _)]) ?_
  refine g_goto 7 C dJ8_untreeify_47 rfl ?_
  refine g_sub [none, some none, some none, some none, some none, none] [] rfl rfl ?_
  exact k7 _ _ _ _ _ w
def wp_J8_untreeify_b19 (G7 : Hp → Option Nat → Option Nat → Option Nat → Option Nat → Prop) (K : Option Nat → Hp → Prop) (h : Hp) (l1 : Option Nat) (l2 : Option Nat) (l3 : Option Nat) (l4 : Option Nat) (s0 : Option Nat) : Prop :=
  ((l3 = none → (wp_J8_untreeify_b37 G7 K h l1 s0 l4 s0)) ∧ (∀ a71, l3 = some a71 → (∀ h72, h72 = wR h 3 a71 s0 → (wp_J8_untreeify_b37 G7 K h72 l1 l2 l4 s0))))
set_option maxHeartbeats 4000000 in
theorem wk_J8_untreeify_b19 {X : Fx} {K : Option Nat → Hp → Prop} (C : Cx X cJ8_untreeify yJ8_untreeify.cls 6 5) (Rr : Rx X (Option.some (Jvm.ClassFile.FieldType.object "java/util/HashMap$Node")) (pR [5, 6, 7] K)) (N : Nm X yJ8_untreeify.name) {G7 : Hp → Option Nat → Option Nat → Option Nat → Option Nat → Prop} (k7 : ∀ (h : Hp) (l1 : Option Nat) (l2 : Option Nat) (l3 : Option Nat) (l4 : Option Nat), G7 h l1 l2 l3 l4 → Gd X h 7 [none, some (vR [2, 3] l1), some (vR [5, 6, 7] l2), some (vR [5, 6, 7] l3), some (vR [5, 6, 7] l4), none] []) (h : Hp) (l1 : Option Nat) (l2 : Option Nat) (l3 : Option Nat) (l4 : Option Nat) (s0 : Option Nat) (w : wp_J8_untreeify_b19 G7 K h l1 l2 l3 l4 s0) : Gd X h 19 [none, some (vR [2, 3] l1), some (vR [5, 6, 7] l2), some (vR [5, 6, 7] l3), some (vR [5, 6, 7] l4), none] [vR [5, 6, 7] s0] := by
  unfold wp_J8_untreeify_b19 at w
  refine g_astore 21 rfl C dJ8_untreeify_19 (by decide) (rfl : _ = [none, some (vR [2, 3] _), some (vR [5, 6, 7] _), some (vR [5, 6, 7] _), some (vR [5, 6, 7] _), some (vR [5, 6, 7] _)]) ?_
  refine g_aload_n 22 rfl C dJ8_untreeify_21 rfl ?_
  refine g_ifnonnull 25 31 rfl C dJ8_untreeify_22 rfl (fun a71 u70 => ?_) (fun u70 => ?_)
  · have w := w.2 a71 u70
    refine g_aload_n 32 rfl C dJ8_untreeify_31 rfl ?_
    refine g_aload 34 rfl C dJ8_untreeify_32 rfl ?_
    refine g_putR 37 rfl C dJ8_untreeify_34 fl_HashMap_TreeNode_112 rfl rfl rfl u70 rfl ?_
    have w := w _ rfl
    refine g_sub [none, some none, some none, none, some none, some none] [] rfl rfl ?_
    exact wk_J8_untreeify_b37 C Rr N k7 _ _ _ _ _ w
  · have w := w.1 u70
    refine g_aload 27 rfl C dJ8_untreeify_25 rfl ?_
    refine g_astore_n 28 rfl C dJ8_untreeify_27 (by decide) (rfl : _ = [none, some (vR [2, 3] _), some (vR [5, 6, 7] _), some (vR [5, 6, 7] _), some (vR [5, 6, 7] _), some (vR [5, 6, 7] _)]) ?_
    refine g_goto 37 C dJ8_untreeify_28 rfl ?_
    refine g_sub [none, some none, some none, none, some none, some none] [] rfl rfl ?_
    exact wk_J8_untreeify_b37 C Rr N k7 _ _ _ _ _ w
def wp_J8_untreeify_b7 (K : Option Nat → Hp → Prop) : Nat → Hp → Option Nat → Option Nat → Option Nat → Option Nat → Prop
  | 0 => fun _ _ _ _ _ => False
  | m9 + 1 => fun h l1 l2 l3 l4 =>
    ((l4 = none → (K l2 h)) ∧ (∀ a76, l4 = some a76 → ((∃ a77, l1 = some a77 ∧ (kd h a77 = 2 ∧ (wp_J1_replacementNode h l1 l4 none (fun r80 h81 => Ex h h81 → (wp_J8_untreeify_b19 (wp_J8_untreeify_b7 K m9) K h81 l1 l2 l3 l4 r80))))) ∨ (∃ a84, l1 = some a84 ∧ (kd h a84 = 3 ∧ (wp_J2_replacementNode h l1 l4 none (fun r87 h88 => Ex h h88 → (wp_J8_untreeify_b19 (wp_J8_untreeify_b7 K m9) K h88 l1 l2 l3 l4 r87))))))))
set_option maxHeartbeats 4000000 in
theorem wk_J8_untreeify_b7 {X : Fx} {K : Option Nat → Hp → Prop} (C : Cx X cJ8_untreeify yJ8_untreeify.cls 6 5) (Rr : Rx X (Option.some (Jvm.ClassFile.FieldType.object "java/util/HashMap$Node")) (pR [5, 6, 7] K)) (N : Nm X yJ8_untreeify.name) : ∀ (n : Nat) (h : Hp) (l1 : Option Nat) (l2 : Option Nat) (l3 : Option Nat) (l4 : Option Nat), wp_J8_untreeify_b7 K n h l1 l2 l3 l4 → Gd X h 7 [none, some (vR [2, 3] l1), some (vR [5, 6, 7] l2), some (vR [5, 6, 7] l3), some (vR [5, 6, 7] l4), none] [] := by
  intro n
  induction n with
  | zero => intro h l1 l2 l3 l4 w; exact w.elim
  | succ n ih =>
    intro h l1 l2 l3 l4 w
    unfold wp_J8_untreeify_b7 at w
    refine g_aload 9 rfl C dJ8_untreeify_7 rfl ?_
    refine g_ifnull 12 50 rfl C dJ8_untreeify_9 rfl (fun u75 => ?_) (fun a76 u75 => ?_)
    · have w := w.1 u75
      refine g_aload_n 51 rfl C dJ8_untreeify_50 rfl ?_
      exact g_areturn [5, 6, 7] C Rr rfl dJ8_untreeify_51 rfl ⟨_, rfl, w⟩
    · have w := w.2 a76 u75
      refine g_aload_n 13 rfl C dJ8_untreeify_12 rfl ?_
      refine g_aload 15 rfl C dJ8_untreeify_13 rfl ?_
      refine g_null 16 rfl C dJ8_untreeify_15 ?_
      rcases w with w | w
      · obtain ⟨a77, e78, w⟩ := w
        obtain ⟨k79, w⟩ := w
        refine g_sub [none, some none, some none, some none, some none, none] [some [5, 6, 7], none, none] rfl rfl ?_
        refine g_callU (As := [vR [5, 6, 7] _, vR [5, 6, 7] _]) (T := [2, 3]) (st := []) "java/util/HashMap" 19 rfl C dJ8_untreeify_16 q232 q235 dcl_ab3624 q234 q233 q11 q298 okn_db1b93 (by decide) (by decide) (Nat.le_of_ble_eq_true rfl) e78 (fun _ => kC rfl k79) rfl (ct_J1_replacementNode C.glob w) (fun r0 h81 p82 x83 _ => ?_)
        obtain ⟨r80, rfl, w⟩ := p82
        have w := w x83
        change Gd _ _ _ _ (vR [5, 6, 7] r80 :: [])
        refine g_sub [none, some none, some none, some none, some none, none] [none] rfl rfl ?_
        exact wk_J8_untreeify_b19 C Rr N ih _ _ _ _ _ _ w
      · obtain ⟨a84, e85, w⟩ := w
        obtain ⟨k86, w⟩ := w
        refine g_nar 2 [3] rfl e85 (by rw [k86]; decide) ?_
        refine g_sub [none, some none, some none, some none, some none, none] [some [5, 6, 7], none, none] rfl rfl ?_
        refine g_callU (As := [vR [5, 6, 7] _, vR [5, 6, 7] _]) (T := [3]) (st := []) "java/util/LinkedHashMap" 19 rfl C dJ8_untreeify_16 q232 q235 dcl_ab3624 q236 q237 q12 q238 okn_db1b93 (by decide) (by decide) (Nat.le_of_ble_eq_true rfl) e85 (fun _ => kC rfl k86) rfl (ct_J2_replacementNode C.glob w) (fun r0 h88 p89 x90 _ => ?_)
        obtain ⟨r87, rfl, w⟩ := p89
        have w := w x90
        change Gd _ _ _ _ (vR [5, 6, 7] r87 :: [])
        refine g_sub [none, some none, some none, some none, some none, none] [none] rfl rfl ?_
        exact wk_J8_untreeify_b19 C Rr N ih _ _ _ _ _ _ w
def wp_J8_untreeify (h : Hp) (x0 : Option Nat) (x1 : Option Nat) (K : Option Nat → Hp → Prop) : Prop :=
  (∃ n, wp_J8_untreeify_b7 K n h x1 none none x0)
set_option maxHeartbeats 4000000 in
theorem wk_J8_untreeify {X : Fx} {K : Option Nat → Hp → Prop} (C : Cx X cJ8_untreeify yJ8_untreeify.cls 6 5) (Rr : Rx X (Option.some (Jvm.ClassFile.FieldType.object "java/util/HashMap$Node")) (pR [5, 6, 7] K)) (N : Nm X yJ8_untreeify.name) (h : Hp) (x0 : Option Nat) (x1 : Option Nat) (w : wp_J8_untreeify h x0 x1 K) : Gd X h 0 [some (vR [7] x0), some (vR [2, 3] x1), none, none, none, none] [] := by
  unfold wp_J8_untreeify at w
  refine g_null 1 rfl C dJ8_untreeify_0 ?_
  refine g_astore_n 2 rfl C dJ8_untreeify_1 (by decide) (rfl : _ = [some (vR [7] _), some (vR [2, 3] _), some (vR [] _), none, none, none]) ?_
  refine g_null 3 rfl C dJ8_untreeify_2 ?_
  refine g_astore_n 4 rfl C dJ8_untreeify_3 (by decide) (rfl : _ = [some (vR [7] _), some (vR [2, 3] _), some (vR [] _), some (vR [] _), none, none]) ?_
  refine g_aload_n 5 rfl C dJ8_untreeify_4 rfl ?_
  refine g_astore 7 rfl C dJ8_untreeify_5 (by decide) (rfl : _ = [some (vR [7] _), some (vR [2, 3] _), some (vR [] _), some (vR [] _), some (vR [7] _), none]) ?_
  refine g_sub [none, some none, some (some [5, 6, 7]), some (some [5, 6, 7]), some (some [5, 6, 7]), none] [] rfl rfl ?_
  obtain ⟨n9, w⟩ := w
  exact wk_J8_untreeify_b7 C Rr N n9 _ _ _ _ _ w
theorem ct_J8_untreeify {E : Gx} (GE : Glob E) {h : Hp} {x0 : Option Nat} {x1 : Option Nat} {K : Option Nat → Hp → Prop} (w : wp_J8_untreeify h x0 x1 K) : Ct E yJ8_untreeify cJ8_untreeify 6 (Option.some (Jvm.ClassFile.FieldType.object "java/util/HashMap$Node")) 5 [vR [7] x0, vR [2, 3] x1] h (pR [5, 6, 7] K) :=
  Ct.of GE (by decide +kernel) (by simp [lvA, t2]) rfl (fun X hX C Rr N => wk_J8_untreeify C Rr N h x0 x1 w)
def wp_J8_rotateLeft_b89 (K : Option Nat → Hp → Prop) (h : Hp) (l0 : Option Nat) : Prop :=
  (K l0 h)
set_option maxHeartbeats 4000000 in
theorem wk_J8_rotateLeft_b89 {X : Fx} {K : Option Nat → Hp → Prop} (C : Cx X cJ8_rotateLeft yJ8_rotateLeft.cls 5 2) (Rr : Rx X (Option.some (Jvm.ClassFile.FieldType.object "java/util/HashMap$TreeNode")) (pR [7] K)) (N : Nm X yJ8_rotateLeft.name) (h : Hp) (l0 : Option Nat) (w : wp_J8_rotateLeft_b89 K h l0) : Gd X h 89 [some (vR [7] l0), none, none, none, none] [] := by
  unfold wp_J8_rotateLeft_b89 at w
  refine g_aload_n 90 rfl C dJ8_rotateLeft_89 rfl ?_
  exact g_areturn [7] C Rr rfl dJ8_rotateLeft_90 rfl ⟨_, rfl, w⟩
def wp_J8_rotateLeft_b79 (K : Option Nat → Hp → Prop) (h : Hp) (l0 : Option Nat) (l1 : Option Nat) (l2 : Option Nat) : Prop :=
  (∃ a62, l2 = some a62 ∧ (∀ h64, h64 = wR h 7 a62 l1 → (∃ a65, l1 = some a65 ∧ (∀ h67, h67 = wR h64 6 a65 l2 → (wp_J8_rotateLeft_b89 K h67 l0)))))
set_option maxHeartbeats 4000000 in
theorem wk_J8_rotateLeft_b79 {X : Fx} {K : Option Nat → Hp → Prop} (C : Cx X cJ8_rotateLeft yJ8_rotateLeft.cls 5 2) (Rr : Rx X (Option.some (Jvm.ClassFile.FieldType.object "java/util/HashMap$TreeNode")) (pR [7] K)) (N : Nm X yJ8_rotateLeft.name) (h : Hp) (l0 : Option Nat) (l1 : Option Nat) (l2 : Option Nat) (w : wp_J8_rotateLeft_b79 K h l0 l1 l2) : Gd X h 79 [some (vR [7] l0), some (vR [7] l1), some (vR [7] l2), none, none] [] := by
  unfold wp_J8_rotateLeft_b79 at w
  refine g_aload_n 80 rfl C dJ8_rotateLeft_79 rfl ?_
  refine g_aload_n 81 rfl C dJ8_rotateLeft_80 rfl ?_
  obtain ⟨a62, e63, w⟩ := w
  refine g_putR 84 rfl C dJ8_rotateLeft_81 fl_HashMap_TreeNode_39 rfl rfl rfl e63 rfl ?_
  have w := w _ rfl
  refine g_aload_n 85 rfl C dJ8_rotateLeft_84 rfl ?_
  refine g_aload_n 86 rfl C dJ8_rotateLeft_85 rfl ?_
  obtain ⟨a65, e66, w⟩ := w
  refine g_putR 89 rfl C dJ8_rotateLeft_86 fl_HashMap_TreeNode_9 rfl rfl rfl e66 rfl ?_
  have w := w _ rfl
  refine g_sub [some none, none, none, none, none] [] rfl rfl ?_
  exact wk_J8_rotateLeft_b89 C Rr N _ _ w
def wp_J8_rotateLeft_b34 (K : Option Nat → Hp → Prop) (h : Hp) (l0 : Option Nat) (l1 : Option Nat) (l2 : Option Nat) : Prop :=
  (∃ a51, l1 = some a51 ∧ (∃ a53, l2 = some a53 ∧ (∀ h55, h55 = wR h 6 a53 (rf h 6 a51) → (((rf h 6 a51) = none → (∀ h58, h58 = wI h55 10 a53 0 → (wp_J8_rotateLeft_b79 K h58 l2 l1 l2))) ∧ (∀ a57, (rf h 6 a51) = some a57 → ((¬ (rf h55 7 a57) = l1 → (∀ h60, h60 = wR h55 8 a57 l2 → (wp_J8_rotateLeft_b79 K h60 l0 l1 l2))) ∧ ((rf h55 7 a57) = l1 → (∀ h61, h61 = wR h55 7 a57 l2 → (wp_J8_rotateLeft_b79 K h61 l0 l1 l2)))))))))
set_option maxHeartbeats 4000000 in
theorem wk_J8_rotateLeft_b34 {X : Fx} {K : Option Nat → Hp → Prop} (C : Cx X cJ8_rotateLeft yJ8_rotateLeft.cls 5 2) (Rr : Rx X (Option.some (Jvm.ClassFile.FieldType.object "java/util/HashMap$TreeNode")) (pR [7] K)) (N : Nm X yJ8_rotateLeft.name) (h : Hp) (l0 : Option Nat) (l1 : Option Nat) (l2 : Option Nat) (w : wp_J8_rotateLeft_b34 K h l0 l1 l2) : Gd X h 34 [some (vR [7] l0), some (vR [7] l1), some (vR [7] l2), none, none] [] := by
  unfold wp_J8_rotateLeft_b34 at w
  refine g_aload_n 35 rfl C dJ8_rotateLeft_34 rfl ?_
  refine g_aload_n 36 rfl C dJ8_rotateLeft_35 rfl ?_
  obtain ⟨a51, e52, w⟩ := w
  refine g_getR 39 rfl C dJ8_rotateLeft_36 fl_HashMap_TreeNode_9 rfl e52 rfl ?_
  refine g_dup_x1 40 rfl C dJ8_rotateLeft_39 rfl rfl ?_
  obtain ⟨a53, e54, w⟩ := w
  refine g_putR 43 rfl C dJ8_rotateLeft_40 fl_HashMap_TreeNode_9 rfl rfl rfl e54 rfl ?_
  have w := w _ rfl
  refine g_dup 44 rfl C dJ8_rotateLeft_43 rfl ?_
  refine g_astore_n 45 rfl C dJ8_rotateLeft_44 (by decide) (rfl : _ = [some (vR [7] _), some (vR [7] _), some (vR [7] _), some (vR [7] _), none]) ?_
  refine g_ifnonnull 48 58 rfl C dJ8_rotateLeft_45 rfl (fun a57 u56 => ?_) (fun u56 => ?_)
  · have w := w.2 a57 u56
    refine g_aload_n 59 rfl C dJ8_rotateLeft_58 rfl ?_
    refine g_getR 62 rfl C dJ8_rotateLeft_59 fl_HashMap_TreeNode_39 rfl u56 rfl ?_
    refine g_aload_n 63 rfl C dJ8_rotateLeft_62 rfl ?_
    refine g_acmp_ne 66 74 rfl C dJ8_rotateLeft_63 rfl (fun u59 => ?_) (fun u59 => ?_)
    · have w := w.1 u59
      refine g_aload_n 75 rfl C dJ8_rotateLeft_74 rfl ?_
      refine g_aload_n 76 rfl C dJ8_rotateLeft_75 rfl ?_
      refine g_putR 79 rfl C dJ8_rotateLeft_76 fl_HashMap_TreeNode_42 rfl rfl rfl u56 rfl ?_
      have w := w _ rfl
      refine g_sub [some none, some none, some none, none, none] [] rfl rfl ?_
      exact wk_J8_rotateLeft_b79 C Rr N _ _ _ _ w
    · have w := w.2 u59
      refine g_aload_n 67 rfl C dJ8_rotateLeft_66 rfl ?_
      refine g_aload_n 68 rfl C dJ8_rotateLeft_67 rfl ?_
      refine g_putR 71 rfl C dJ8_rotateLeft_68 fl_HashMap_TreeNode_39 rfl rfl rfl u56 rfl ?_
      have w := w _ rfl
      refine g_goto 79 C dJ8_rotateLeft_71 rfl ?_
      refine g_sub [some none, some none, some none, none, none] [] rfl rfl ?_
      exact wk_J8_rotateLeft_b79 C Rr N _ _ _ _ w
  · have w := w.1 u56
    refine g_aload_n 49 rfl C dJ8_rotateLeft_48 rfl ?_
    refine g_dup 50 rfl C dJ8_rotateLeft_49 rfl ?_
    refine g_astore_n 51 rfl C dJ8_rotateLeft_50 (by decide) (rfl : _ = [some (vR [7] _), some (vR [7] _), some (vR [7] _), some (vR [7] _), none]) ?_
    refine g_iconst 52 rfl C dJ8_rotateLeft_51 0 rfl ?_
    refine g_putZ 55 rfl C dJ8_rotateLeft_52 fl_HashMap_TreeNode_93 rfl rfl (Or.inl rfl) e54 rfl ?_
    have w := w _ rfl
    refine g_goto 79 C dJ8_rotateLeft_55 rfl ?_
    refine g_sub [some none, some none, some none, none, none] [] rfl rfl ?_
    exact wk_J8_rotateLeft_b79 C Rr N _ _ _ _ w
def wp_J8_rotateLeft (h : Hp) (x0 : Option Nat) (x1 : Option Nat) (K : Option Nat → Hp → Prop) : Prop :=
  ((x1 = none → (wp_J8_rotateLeft_b89 K h x0)) ∧ (∀ a44, x1 = some a44 → (((rf h 8 a44) = none → (wp_J8_rotateLeft_b89 K h x0)) ∧ (∀ a46, (rf h 8 a44) = some a46 → (∀ h47, h47 = wR h 8 a44 (rf h 7 a46) → (((rf h 7 a46) = none → (wp_J8_rotateLeft_b34 K h47 x0 x1 (rf h 8 a44))) ∧ (∀ a49, (rf h 7 a46) = some a49 → (∀ h50, h50 = wR h47 6 a49 x1 → (wp_J8_rotateLeft_b34 K h50 x0 x1 (rf h 8 a44))))))))))
set_option maxHeartbeats 4000000 in
theorem wk_J8_rotateLeft {X : Fx} {K : Option Nat → Hp → Prop} (C : Cx X cJ8_rotateLeft yJ8_rotateLeft.cls 5 2) (Rr : Rx X (Option.some (Jvm.ClassFile.FieldType.object "java/util/HashMap$TreeNode")) (pR [7] K)) (N : Nm X yJ8_rotateLeft.name) (h : Hp) (x0 : Option Nat) (x1 : Option Nat) (w : wp_J8_rotateLeft h x0 x1 K) : Gd X h 0 [some (vR [7] x0), some (vR [7] x1), none, none, none] [] := by
  unfold wp_J8_rotateLeft at w
  refine g_aload_n 1 rfl C dJ8_rotateLeft_0 rfl ?_
  refine g_ifnull 4 89 rfl C dJ8_rotateLeft_1 rfl (fun u43 => ?_) (fun a44 u43 => ?_)
  · have w := w.1 u43
    refine g_sub [some none, none, none, none, none] [] rfl rfl ?_
    exact wk_J8_rotateLeft_b89 C Rr N _ _ w
  · have w := w.2 a44 u43
    refine g_aload_n 5 rfl C dJ8_rotateLeft_4 rfl ?_
    refine g_getR 8 rfl C dJ8_rotateLeft_5 fl_HashMap_TreeNode_42 rfl u43 rfl ?_
    refine g_dup 9 rfl C dJ8_rotateLeft_8 rfl ?_
    refine g_astore_n 10 rfl C dJ8_rotateLeft_9 (by decide) (rfl : _ = [some (vR [7] _), some (vR [7] _), some (vR [7] _), none, none]) ?_
    refine g_ifnull 13 89 rfl C dJ8_rotateLeft_10 rfl (fun u45 => ?_) (fun a46 u45 => ?_)
    · have w := w.1 u45
      refine g_sub [some none, none, none, none, none] [] rfl rfl ?_
      exact wk_J8_rotateLeft_b89 C Rr N _ _ w
    · have w := w.2 a46 u45
      refine g_aload_n 14 rfl C dJ8_rotateLeft_13 rfl ?_
      refine g_aload_n 15 rfl C dJ8_rotateLeft_14 rfl ?_
      refine g_getR 18 rfl C dJ8_rotateLeft_15 fl_HashMap_TreeNode_39 rfl u45 rfl ?_
      refine g_dup_x1 19 rfl C dJ8_rotateLeft_18 rfl rfl ?_
      refine g_putR 22 rfl C dJ8_rotateLeft_19 fl_HashMap_TreeNode_42 rfl rfl rfl u43 rfl ?_
      have w := w _ rfl
      refine g_dup 23 rfl C dJ8_rotateLeft_22 rfl ?_
      refine g_astore 25 rfl C dJ8_rotateLeft_23 (by decide) (rfl : _ = [some (vR [7] _), some (vR [7] _), some (vR [7] _), none, some (vR [7] _)]) ?_
      refine g_ifnull 28 34 rfl C dJ8_rotateLeft_25 rfl (fun u48 => ?_) (fun a49 u48 => ?_)
      · have w := w.1 u48
        refine g_sub [some none, some none, some none, none, none] [] rfl rfl ?_
        exact wk_J8_rotateLeft_b34 C Rr N _ _ _ _ w
      · have w := w.2 a49 u48
        refine g_aload 30 rfl C dJ8_rotateLeft_28 rfl ?_
        refine g_aload_n 31 rfl C dJ8_rotateLeft_30 rfl ?_
        refine g_putR 34 rfl C dJ8_rotateLeft_31 fl_HashMap_TreeNode_9 rfl rfl rfl u48 rfl ?_
        have w := w _ rfl
        refine g_sub [some none, some none, some none, none, none] [] rfl rfl ?_
        exact wk_J8_rotateLeft_b34 C Rr N _ _ _ _ w
theorem ct_J8_rotateLeft {E : Gx} (GE : Glob E) {h : Hp} {x0 : Option Nat} {x1 : Option Nat} {K : Option Nat → Hp → Prop} (w : wp_J8_rotateLeft h x0 x1 K) : Ct E yJ8_rotateLeft cJ8_rotateLeft 5 (Option.some (Jvm.ClassFile.FieldType.object "java/util/HashMap$TreeNode")) 2 [vR [7] x0, vR [7] x1] h (pR [7] K) :=
  Ct.of GE (by decide +kernel) (by simp [lvA, t2]) rfl (fun X hX C Rr N => wk_J8_rotateLeft C Rr N h x0 x1 w)
def wp_J8_rotateRight_b89 (K : Option Nat → Hp → Prop) (h : Hp) (l0 : Option Nat) : Prop :=
  (K l0 h)
set_option maxHeartbeats 4000000 in
theorem wk_J8_rotateRight_b89 {X : Fx} {K : Option Nat → Hp → Prop} (C : Cx X cJ8_rotateRight yJ8_rotateRight.cls 5 2) (Rr : Rx X (Option.some (Jvm.ClassFile.FieldType.object "java/util/HashMap$TreeNode")) (pR [7] K)) (N : Nm X yJ8_rotateRight.name) (h : Hp) (l0 : Option Nat) (w : wp_J8_rotateRight_b89 K h l0) : Gd X h 89 [some (vR [7] l0), none, none, none, none] [] := by
  unfold wp_J8_rotateRight_b89 at w
  refine g_aload_n 90 rfl C dJ8_rotateRight_89 rfl ?_
  exact g_areturn [7] C Rr rfl dJ8_rotateRight_90 rfl ⟨_, rfl, w⟩
def wp_J8_rotateRight_b79 (K : Option Nat → Hp → Prop) (h : Hp) (l0 : Option Nat) (l1 : Option Nat) (l2 : Option Nat) : Prop :=
  (∃ a62, l2 = some a62 ∧ (∀ h64, h64 = wR h 8 a62 l1 → (∃ a65, l1 = some a65 ∧ (∀ h67, h67 = wR h64 6 a65 l2 → (wp_J8_rotateRight_b89 K h67 l0)))))
set_option maxHeartbeats 4000000 in
theorem wk_J8_rotateRight_b79 {X : Fx} {K : Option Nat → Hp → Prop} (C : Cx X cJ8_rotateRight yJ8_rotateRight.cls 5 2) (Rr : Rx X (Option.some (Jvm.ClassFile.FieldType.object "java/util/HashMap$TreeNode")) (pR [7] K)) (N : Nm X yJ8_rotateRight.name) (h : Hp) (l0 : Option Nat) (l1 : Option Nat) (l2 : Option Nat) (w : wp_J8_rotateRight_b79 K h l0 l1 l2) : Gd X h 79 [some (vR [7] l0), some (vR [7] l1), some (vR [7] l2), none, none] [] := by
  unfold wp_J8_rotateRight_b79 at w
  refine g_aload_n 80 rfl C dJ8_rotateRight_79 rfl ?_
  refine g_aload_n 81 rfl C dJ8_rotateRight_80 rfl ?_
  obtain ⟨a62, e63, w⟩ := w
  refine g_putR 84 rfl C dJ8_rotateRight_81 fl_HashMap_TreeNode_42 rfl rfl rfl e63 rfl ?_
  have w := w _ rfl
  refine g_aload_n 85 rfl C dJ8_rotateRight_84 rfl ?_
  refine g_aload_n 86 rfl C dJ8_rotateRight_85 rfl ?_
  obtain ⟨a65, e66, w⟩ := w
  refine g_putR 89 rfl C dJ8_rotateRight_86 fl_HashMap_TreeNode_9 rfl rfl rfl e66 rfl ?_
  have w := w _ rfl
  refine g_sub [some none, none, none, none, none] [] rfl rfl ?_
  exact wk_J8_rotateRight_b89 C Rr N _ _ w
def wp_J8_rotateRight_b34 (K : Option Nat → Hp → Prop) (h : Hp) (l0 : Option Nat) (l1 : Option Nat) (l2 : Option Nat) : Prop :=
  (∃ a51, l1 = some a51 ∧ (∃ a53, l2 = some a53 ∧ (∀ h55, h55 = wR h 6 a53 (rf h 6 a51) → (((rf h 6 a51) = none → (∀ h58, h58 = wI h55 10 a53 0 → (wp_J8_rotateRight_b79 K h58 l2 l1 l2))) ∧ (∀ a57, (rf h 6 a51) = some a57 → ((¬ (rf h55 8 a57) = l1 → (∀ h60, h60 = wR h55 7 a57 l2 → (wp_J8_rotateRight_b79 K h60 l0 l1 l2))) ∧ ((rf h55 8 a57) = l1 → (∀ h61, h61 = wR h55 8 a57 l2 → (wp_J8_rotateRight_b79 K h61 l0 l1 l2)))))))))
set_option maxHeartbeats 4000000 in
theorem wk_J8_rotateRight_b34 {X : Fx} {K : Option Nat → Hp → Prop} (C : Cx X cJ8_rotateRight yJ8_rotateRight.cls 5 2) (Rr : Rx X (Option.some (Jvm.ClassFile.FieldType.object "java/util/HashMap$TreeNode")) (pR [7] K)) (N : Nm X yJ8_rotateRight.name) (h : Hp) (l0 : Option Nat) (l1 : Option Nat) (l2 : Option Nat) (w : wp_J8_rotateRight_b34 K h l0 l1 l2) : Gd X h 34 [some (vR [7] l0), some (vR [7] l1), some (vR [7] l2), none, none] [] := by
  unfold wp_J8_rotateRight_b34 at w
  refine g_aload_n 35 rfl C dJ8_rotateRight_34 rfl ?_
  refine g_aload_n 36 rfl C dJ8_rotateRight_35 rfl ?_
  obtain ⟨a51, e52, w⟩ := w
  refine g_getR 39 rfl C dJ8_rotateRight_36 fl_HashMap_TreeNode_9 rfl e52 rfl ?_
  refine g_dup_x1 40 rfl C dJ8_rotateRight_39 rfl rfl ?_
  obtain ⟨a53, e54, w⟩ := w
  refine g_putR 43 rfl C dJ8_rotateRight_40 fl_HashMap_TreeNode_9 rfl rfl rfl e54 rfl ?_
  have w := w _ rfl
  refine g_dup 44 rfl C dJ8_rotateRight_43 rfl ?_
  refine g_astore_n 45 rfl C dJ8_rotateRight_44 (by decide) (rfl : _ = [some (vR [7] _), some (vR [7] _), some (vR [7] _), some (vR [7] _), none]) ?_
  refine g_ifnonnull 48 58 rfl C dJ8_rotateRight_45 rfl (fun a57 u56 => ?_) (fun u56 => ?_)
  · have w := w.2 a57 u56
    refine g_aload_n 59 rfl C dJ8_rotateRight_58 rfl ?_
    refine g_getR 62 rfl C dJ8_rotateRight_59 fl_HashMap_TreeNode_42 rfl u56 rfl ?_
    refine g_aload_n 63 rfl C dJ8_rotateRight_62 rfl ?_
    refine g_acmp_ne 66 74 rfl C dJ8_rotateRight_63 rfl (fun u59 => ?_) (fun u59 => ?_)
    · have w := w.1 u59
      refine g_aload_n 75 rfl C dJ8_rotateRight_74 rfl ?_
      refine g_aload_n 76 rfl C dJ8_rotateRight_75 rfl ?_
      refine g_putR 79 rfl C dJ8_rotateRight_76 fl_HashMap_TreeNode_39 rfl rfl rfl u56 rfl ?_
      have w := w _ rfl
      refine g_sub [some none, some none, some none, none, none] [] rfl rfl ?_
      exact wk_J8_rotateRight_b79 C Rr N _ _ _ _ w
    · have w := w.2 u59
      refine g_aload_n 67 rfl C dJ8_rotateRight_66 rfl ?_
      refine g_aload_n 68 rfl C dJ8_rotateRight_67 rfl ?_
      refine g_putR 71 rfl C dJ8_rotateRight_68 fl_HashMap_TreeNode_42 rfl rfl rfl u56 rfl ?_
      have w := w _ rfl
      refine g_goto 79 C dJ8_rotateRight_71 rfl ?_
      refine g_sub [some none, some none, some none, none, none] [] rfl rfl ?_
      exact wk_J8_rotateRight_b79 C Rr N _ _ _ _ w
  · have w := w.1 u56
    refine g_aload_n 49 rfl C dJ8_rotateRight_48 rfl ?_
    refine g_dup 50 rfl C dJ8_rotateRight_49 rfl ?_
    refine g_astore_n 51 rfl C dJ8_rotateRight_50 (by decide) (rfl : _ = [some (vR [7] _), some (vR [7] _), some (vR [7] _), some (vR [7] _), none]) ?_
    refine g_iconst 52 rfl C dJ8_rotateRight_51 0 rfl ?_
    refine g_putZ 55 rfl C dJ8_rotateRight_52 fl_HashMap_TreeNode_93 rfl rfl (Or.inl rfl) e54 rfl ?_
    have w := w _ rfl
    refine g_goto 79 C dJ8_rotateRight_55 rfl ?_
    refine g_sub [some none, some none, some none, none, none] [] rfl rfl ?_
    exact wk_J8_rotateRight_b79 C Rr N _ _ _ _ w
def wp_J8_rotateRight (h : Hp) (x0 : Option Nat) (x1 : Option Nat) (K : Option Nat → Hp → Prop) : Prop :=
  ((x1 = none → (wp_J8_rotateRight_b89 K h x0)) ∧ (∀ a44, x1 = some a44 → (((rf h 7 a44) = none → (wp_J8_rotateRight_b89 K h x0)) ∧ (∀ a46, (rf h 7 a44) = some a46 → (∀ h47, h47 = wR h 7 a44 (rf h 8 a46) → (((rf h 8 a46) = none → (wp_J8_rotateRight_b34 K h47 x0 x1 (rf h 7 a44))) ∧ (∀ a49, (rf h 8 a46) = some a49 → (∀ h50, h50 = wR h47 6 a49 x1 → (wp_J8_rotateRight_b34 K h50 x0 x1 (rf h 7 a44))))))))))
set_option maxHeartbeats 4000000 in
theorem wk_J8_rotateRight {X : Fx} {K : Option Nat → Hp → Prop} (C : Cx X cJ8_rotateRight yJ8_rotateRight.cls 5 2) (Rr : Rx X (Option.some (Jvm.ClassFile.FieldType.object "java/util/HashMap$TreeNode")) (pR [7] K)) (N : Nm X yJ8_rotateRight.name) (h : Hp) (x0 : Option Nat) (x1 : Option Nat) (w : wp_J8_rotateRight h x0 x1 K) : Gd X h 0 [some (vR [7] x0), some (vR [7] x1), none, none, none] [] := by
  unfold wp_J8_rotateRight at w
  refine g_aload_n 1 rfl C dJ8_rotateRight_0 rfl ?_
  refine g_ifnull 4 89 rfl C dJ8_rotateRight_1 rfl (fun u43 => ?_) (fun a44 u43 => ?_)
  · have w := w.1 u43
    refine g_sub [some none, none, none, none, none] [] rfl rfl ?_
    exact wk_J8_rotateRight_b89 C Rr N _ _ w
  · have w := w.2 a44 u43
    refine g_aload_n 5 rfl C dJ8_rotateRight_4 rfl ?_
    refine g_getR 8 rfl C dJ8_rotateRight_5 fl_HashMap_TreeNode_39 rfl u43 rfl ?_
    refine g_dup 9 rfl C dJ8_rotateRight_8 rfl ?_
    refine g_astore_n 10 rfl C dJ8_rotateRight_9 (by decide) (rfl : _ = [some (vR [7] _), some (vR [7] _), some (vR [7] _), none, none]) ?_
    refine g_ifnull 13 89 rfl C dJ8_rotateRight_10 rfl (fun u45 => ?_) (fun a46 u45 => ?_)
    · have w := w.1 u45
      refine g_sub [some none, none, none, none, none] [] rfl rfl ?_
      exact wk_J8_rotateRight_b89 C Rr N _ _ w
    · have w := w.2 a46 u45
      refine g_aload_n 14 rfl C dJ8_rotateRight_13 rfl ?_
      refine g_aload_n 15 rfl C dJ8_rotateRight_14 rfl ?_
      refine g_getR 18 rfl C dJ8_rotateRight_15 fl_HashMap_TreeNode_42 rfl u45 rfl ?_
      refine g_dup_x1 19 rfl C dJ8_rotateRight_18 rfl rfl ?_
      refine g_putR 22 rfl C dJ8_rotateRight_19 fl_HashMap_TreeNode_39 rfl rfl rfl u43 rfl ?_
      have w := w _ rfl
      refine g_dup 23 rfl C dJ8_rotateRight_22 rfl ?_
      refine g_astore 25 rfl C dJ8_rotateRight_23 (by decide) (rfl : _ = [some (vR [7] _), some (vR [7] _), some (vR [7] _), none, some (vR [7] _)]) ?_
      refine g_ifnull 28 34 rfl C dJ8_rotateRight_25 rfl (fun u48 => ?_) (fun a49 u48 => ?_)
      · have w := w.1 u48
        refine g_sub [some none, some none, some none, none, none] [] rfl rfl ?_
        exact wk_J8_rotateRight_b34 C Rr N _ _ _ _ w
      · have w := w.2 a49 u48
        refine g_aload 30 rfl C dJ8_rotateRight_28 rfl ?_
        refine g_aload_n 31 rfl C dJ8_rotateRight_30 rfl ?_
        refine g_putR 34 rfl C dJ8_rotateRight_31 fl_HashMap_TreeNode_9 rfl rfl rfl u48 rfl ?_
        have w := w _ rfl
        refine g_sub [some none, some none, some none, none, none] [] rfl rfl ?_
        exact wk_J8_rotateRight_b34 C Rr N _ _ _ _ w
theorem ct_J8_rotateRight {E : Gx} (GE : Glob E) {h : Hp} {x0 : Option Nat} {x1 : Option Nat} {K : Option Nat → Hp → Prop} (w : wp_J8_rotateRight h x0 x1 K) : Ct E yJ8_rotateRight cJ8_rotateRight 5 (Option.some (Jvm.ClassFile.FieldType.object "java/util/HashMap$TreeNode")) 2 [vR [7] x0, vR [7] x1] h (pR [7] K) :=
  Ct.of GE (by decide +kernel) (by simp [lvA, t2]) rfl (fun X hX C Rr N => wk_J8_rotateRight C Rr N h x0 x1 w)
def wp_J8_balanceInsertion_b37 (K : Option Nat → Hp → Prop) (h : Hp) (l0 : Option Nat) : Prop :=
  (K l0 h)
set_option maxHeartbeats 4000000 in
theorem wk_J8_balanceInsertion_b37 {X : Fx} {K : Option Nat → Hp → Prop} (C : Cx X cJ8_balanceInsertion yJ8_balanceInsertion.cls 6 3) (Rr : Rx X (Option.some (Jvm.ClassFile.FieldType.object "java/util/HashMap$TreeNode")) (pR [7] K)) (N : Nm X yJ8_balanceInsertion.name) (h : Hp) (l0 : Option Nat) (w : wp_J8_balanceInsertion_b37 K h l0) : Gd X h 37 [some (vR [7] l0), none, none, none, none, none] [] := by
  unfold wp_J8_balanceInsertion_b37 at w
  refine g_aload_n 38 rfl C dJ8_balanceInsertion_37 rfl ?_
  exact g_areturn [7] C Rr rfl dJ8_balanceInsertion_38 rfl ⟨_, rfl, w⟩
def wp_J8_balanceInsertion_b123 (G5 : Hp → Option Nat → Option Nat → Prop) (K : Option Nat → Hp → Prop) (h : Hp) (l0 : Option Nat) (l1 : Option Nat) (l2 : Option Nat) (l3 : Option Nat) : Prop :=
  ((l2 = none → (G5 h l0 l1)) ∧ (∀ a183, l2 = some a183 → (∀ h184, h184 = wI h 10 a183 0 → ((l3 = none → (G5 h184 l0 l1)) ∧ (∀ a186, l3 = some a186 → (∀ h187, h187 = wI h184 10 a186 1 → (wp_J8_rotateRight h187 l0 l3 (fun r189 h190 => Ex h187 h190 → (G5 h190 r189 l1)))))))))
set_option maxHeartbeats 4000000 in
theorem wk_J8_balanceInsertion_b123 {X : Fx} {K : Option Nat → Hp → Prop} (C : Cx X cJ8_balanceInsertion yJ8_balanceInsertion.cls 6 3) (Rr : Rx X (Option.some (Jvm.ClassFile.FieldType.object "java/util/HashMap$TreeNode")) (pR [7] K)) (N : Nm X yJ8_balanceInsertion.name) {G5 : Hp → Option Nat → Option Nat → Prop} (k5 : ∀ (h : Hp) (l0 : Option Nat) (l1 : Option Nat), G5 h l0 l1 → Gd X h 5 [some (vR [7] l0), some (vR [7] l1), none, none, none, none] []) (h : Hp) (l0 : Option Nat) (l1 : Option Nat) (l2 : Option Nat) (l3 : Option Nat) (w : wp_J8_balanceInsertion_b123 G5 K h l0 l1 l2 l3) : Gd X h 123 [some (vR [7] l0), some (vR [7] l1), some (vR [7] l2), some (vR [7] l3), none, none] [] := by
  unfold wp_J8_balanceInsertion_b123 at w
  refine g_aload_n 124 rfl C dJ8_balanceInsertion_123 rfl ?_
  refine g_ifnull 127 5 rfl C dJ8_balanceInsertion_124 rfl (fun u182 => ?_) (fun a183 u182 => ?_)
  · have w := w.1 u182
    refine g_sub [some none, some none, none, none, none, none] [] rfl rfl ?_
    exact k5 _ _ _ w
  · have w := w.2 a183 u182
    refine g_aload_n 128 rfl C dJ8_balanceInsertion_127 rfl ?_
    refine g_iconst 129 rfl C dJ8_balanceInsertion_128 0 rfl ?_
    refine g_putZ 132 rfl C dJ8_balanceInsertion_129 fl_HashMap_TreeNode_93 rfl rfl (Or.inl rfl) u182 rfl ?_
    have w := w _ rfl
    refine g_aload_n 133 rfl C dJ8_balanceInsertion_132 rfl ?_
    refine g_ifnull 136 5 rfl C dJ8_balanceInsertion_133 rfl (fun u185 => ?_) (fun a186 u185 => ?_)
    · have w := w.1 u185
      refine g_sub [some none, some none, none, none, none, none] [] rfl rfl ?_
      exact k5 _ _ _ w
    · have w := w.2 a186 u185
      refine g_aload_n 137 rfl C dJ8_balanceInsertion_136 rfl ?_
      refine g_iconst 138 rfl C dJ8_balanceInsertion_137 1 rfl ?_
      refine g_putZ 141 rfl C dJ8_balanceInsertion_138 fl_HashMap_TreeNode_93 rfl rfl (Or.inr rfl) u185 rfl ?_
      have w := w _ rfl
      refine g_aload_n 142 rfl C dJ8_balanceInsertion_141 rfl ?_
      refine g_aload_n 143 rfl C dJ8_balanceInsertion_142 rfl ?_
      refine g_callS (As := [vR [7] _, vR [7] _]) (st := []) 146 rfl C dJ8_balanceInsertion_143 q361 q362 q21 q363 okn_3b0f86 (by decide) (by decide) (Nat.le_of_ble_eq_true rfl) rfl (ct_J8_rotateRight C.glob w) (fun r0 h190 p191 x192 _ => ?_)
      obtain ⟨r189, rfl, w⟩ := p191
      have w := w x192
      change Gd _ _ _ _ (vR [7] r189 :: [])
      refine g_astore_n 147 rfl C dJ8_balanceInsertion_146 (by decide) (rfl : _ = [some (vR [7] _), some (vR [7] _), some (vR [7] _), some (vR [7] _), none, none]) ?_
      refine g_goto 5 C dJ8_balanceInsertion_147 rfl ?_
      refine g_sub [some none, some none, none, none, none, none] [] rfl rfl ?_
      exact k5 _ _ _ w
def wp_J8_balanceInsertion_b122 (G5 : Hp → Option Nat → Option Nat → Prop) (K : Option Nat → Hp → Prop) (h : Hp) (l0 : Option Nat) (l1 : Option Nat) (l2 : Option Nat) (s0 : Option Nat) : Prop :=
  (wp_J8_balanceInsertion_b123 G5 K h l0 l1 l2 s0)
set_option maxHeartbeats 4000000 in
theorem wk_J8_balanceInsertion_b122 {X : Fx} {K : Option Nat → Hp → Prop} (C : Cx X cJ8_balanceInsertion yJ8_balanceInsertion.cls 6 3) (Rr : Rx X (Option.some (Jvm.ClassFile.FieldType.object "java/util/HashMap$TreeNode")) (pR [7] K)) (N : Nm X yJ8_balanceInsertion.name) {G5 : Hp → Option Nat → Option Nat → Prop} (k5 : ∀ (h : Hp) (l0 : Option Nat) (l1 : Option Nat), G5 h l0 l1 → Gd X h 5 [some (vR [7] l0), some (vR [7] l1), none, none, none, none] []) (h : Hp) (l0 : Option Nat) (l1 : Option Nat) (l2 : Option Nat) (s0 : Option Nat) (w : wp_J8_balanceInsertion_b122 G5 K h l0 l1 l2 s0) : Gd X h 122 [some (vR [7] l0), some (vR [7] l1), some (vR [7] l2), none, none, none] [vR [7] s0] := by
  unfold wp_J8_balanceInsertion_b122 at w
  refine g_astore_n 123 rfl C dJ8_balanceInsertion_122 (by decide) (rfl : _ = [some (vR [7] _), some (vR [7] _), some (vR [7] _), some (vR [7] _), none, none]) ?_
  refine g_sub [some none, some none, some none, some none, none, none] [] rfl rfl ?_
  exact wk_J8_balanceInsertion_b123 C Rr N k5 _ _ _ _ _ w
def wp_J8_balanceInsertion_b89 (G5 : Hp → Option Nat → Option Nat → Prop) (K : Option Nat → Hp → Prop) (h : Hp) (l0 : Option Nat) (l1 : Option Nat) (l2 : Option Nat) (l3 : Option Nat) : Prop :=
  (∃ a161, l2 = some a161 ∧ ((¬ l1 = (rf h 8 a161) → (wp_J8_balanceInsertion_b123 G5 K h l0 l1 l2 l3)) ∧ (l1 = (rf h 8 a161) → (wp_J8_rotateLeft h l0 l2 (fun r165 h166 => Ex h h166 → (((rf h166 6 a161) = none → (wp_J8_balanceInsertion_b122 G5 K h166 r165 l2 (rf h166 6 a161) none)) ∧ (∀ a170, (rf h166 6 a161) = some a170 → (wp_J8_balanceInsertion_b122 G5 K h166 r165 l2 (rf h166 6 a161) (rf h166 6 a170)))))))))
set_option maxHeartbeats 4000000 in
theorem wk_J8_balanceInsertion_b89 {X : Fx} {K : Option Nat → Hp → Prop} (C : Cx X cJ8_balanceInsertion yJ8_balanceInsertion.cls 6 3) (Rr : Rx X (Option.some (Jvm.ClassFile.FieldType.object "java/util/HashMap$TreeNode")) (pR [7] K)) (N : Nm X yJ8_balanceInsertion.name) {G5 : Hp → Option Nat → Option Nat → Prop} (k5 : ∀ (h : Hp) (l0 : Option Nat) (l1 : Option Nat), G5 h l0 l1 → Gd X h 5 [some (vR [7] l0), some (vR [7] l1), none, none, none, none] []) (h : Hp) (l0 : Option Nat) (l1 : Option Nat) (l2 : Option Nat) (l3 : Option Nat) (w : wp_J8_balanceInsertion_b89 G5 K h l0 l1 l2 l3) : Gd X h 89 [some (vR [7] l0), some (vR [7] l1), some (vR [7] l2), some (vR [7] l3), none, none] [] := by
  unfold wp_J8_balanceInsertion_b89 at w
  refine g_aload_n 90 rfl C dJ8_balanceInsertion_89 rfl ?_
  refine g_aload_n 91 rfl C dJ8_balanceInsertion_90 rfl ?_
  obtain ⟨a161, e162, w⟩ := w
  refine g_getR 94 rfl C dJ8_balanceInsertion_91 fl_HashMap_TreeNode_42 rfl e162 rfl ?_
  refine g_acmp_ne 97 123 rfl C dJ8_balanceInsertion_94 rfl (fun u163 => ?_) (fun u163 => ?_)
  · have w := w.1 u163
    refine g_sub [some none, some none, some none, some none, none, none] [] rfl rfl ?_
    exact wk_J8_balanceInsertion_b123 C Rr N k5 _ _ _ _ _ w
  · have w := w.2 u163
    refine g_aload_n 98 rfl C dJ8_balanceInsertion_97 rfl ?_
    refine g_aload_n 99 rfl C dJ8_balanceInsertion_98 rfl ?_
    refine g_dup 100 rfl C dJ8_balanceInsertion_99 rfl ?_
    refine g_astore_n 101 rfl C dJ8_balanceInsertion_100 (by decide) (rfl : _ = [some (vR [7] _), some (vR [7] _), some (vR [7] _), some (vR [7] _), none, none]) ?_
    refine g_callS (As := [vR [7] _, vR [7] _]) (st := []) 104 rfl C dJ8_balanceInsertion_101 q358 q359 q21 q360 okn_1ce7d6 (by decide) (by decide) (Nat.le_of_ble_eq_true rfl) rfl (ct_J8_rotateLeft C.glob w) (fun r0 h166 p167 x168 _ => ?_)
    obtain ⟨r165, rfl, w⟩ := p167
    have w := w x168
    change Gd _ _ _ _ (vR [7] r165 :: [])
    refine g_astore_n 105 rfl C dJ8_balanceInsertion_104 (by decide) (rfl : _ = [some (vR [7] _), some (vR [7] _), some (vR [7] _), some (vR [7] _), none, none]) ?_
    refine g_aload_n 106 rfl C dJ8_balanceInsertion_105 rfl ?_
    refine g_getR 109 rfl C dJ8_balanceInsertion_106 fl_HashMap_TreeNode_9 rfl e162 rfl ?_
    refine g_dup 110 rfl C dJ8_balanceInsertion_109 rfl ?_
    refine g_astore_n 111 rfl C dJ8_balanceInsertion_110 (by decide) (rfl : _ = [some (vR [7] _), some (vR [7] _), some (vR [7] _), some (vR [7] _), none, none]) ?_
    refine g_ifnonnull 114 118 rfl C dJ8_balanceInsertion_111 rfl (fun a170 u169 => ?_) (fun u169 => ?_)
    · have w := w.2 a170 u169
      refine g_aload_n 119 rfl C dJ8_balanceInsertion_118 rfl ?_
      refine g_getR 122 rfl C dJ8_balanceInsertion_119 fl_HashMap_TreeNode_9 rfl u169 rfl ?_
      refine g_sub [some none, some none, some none, none, none, none] [none] rfl rfl ?_
      exact wk_J8_balanceInsertion_b122 C Rr N k5 _ _ _ _ _ w
    · have w := w.1 u169
      refine g_null 115 rfl C dJ8_balanceInsertion_114 ?_
      refine g_goto 122 C dJ8_balanceInsertion_115 rfl ?_
      refine g_sub [some none, some none, some none, none, none, none] [some [7]] rfl rfl ?_
      exact wk_J8_balanceInsertion_b122 C Rr N k5 _ _ _ _ _ w
def wp_J8_balanceInsertion_b218 (G5 : Hp → Option Nat → Option Nat → Prop) (K : Option Nat → Hp → Prop) (h : Hp) (l0 : Option Nat) (l1 : Option Nat) (l2 : Option Nat) (l3 : Option Nat) : Prop :=
  ((l2 = none → (G5 h l0 l1)) ∧ (∀ a172, l2 = some a172 → (∀ h173, h173 = wI h 10 a172 0 → ((l3 = none → (G5 h173 l0 l1)) ∧ (∀ a175, l3 = some a175 → (∀ h176, h176 = wI h173 10 a175 1 → (wp_J8_rotateLeft h176 l0 l3 (fun r178 h179 => Ex h176 h179 → (G5 h179 r178 l1)))))))))
set_option maxHeartbeats 4000000 in
theorem wk_J8_balanceInsertion_b218 {X : Fx} {K : Option Nat → Hp → Prop} (C : Cx X cJ8_balanceInsertion yJ8_balanceInsertion.cls 6 3) (Rr : Rx X (Option.some (Jvm.ClassFile.FieldType.object "java/util/HashMap$TreeNode")) (pR [7] K)) (N : Nm X yJ8_balanceInsertion.name) {G5 : Hp → Option Nat → Option Nat → Prop} (k5 : ∀ (h : Hp) (l0 : Option Nat) (l1 : Option Nat), G5 h l0 l1 → Gd X h 5 [some (vR [7] l0), some (vR [7] l1), none, none, none, none] []) (h : Hp) (l0 : Option Nat) (l1 : Option Nat) (l2 : Option Nat) (l3 : Option Nat) (w : wp_J8_balanceInsertion_b218 G5 K h l0 l1 l2 l3) : Gd X h 218 [some (vR [7] l0), some (vR [7] l1), some (vR [7] l2), some (vR [7] l3), none, none] [] := by
  unfold wp_J8_balanceInsertion_b218 at w
  refine g_aload_n 219 rfl C dJ8_balanceInsertion_218 rfl ?_
  refine g_ifnull 222 5 rfl C dJ8_balanceInsertion_219 rfl (fun u171 => ?_) (fun a172 u171 => ?_)
  · have w := w.1 u171
    refine g_sub [some none, some none, none, none, none, none] [] rfl rfl ?_
    exact k5 _ _ _ w
  · have w := w.2 a172 u171
    refine g_aload_n 223 rfl C dJ8_balanceInsertion_222 rfl ?_
    refine g_iconst 224 rfl C dJ8_balanceInsertion_223 0 rfl ?_
    refine g_putZ 227 rfl C dJ8_balanceInsertion_224 fl_HashMap_TreeNode_93 rfl rfl (Or.inl rfl) u171 rfl ?_
    have w := w _ rfl
    refine g_aload_n 228 rfl C dJ8_balanceInsertion_227 rfl ?_
    refine g_ifnull 231 5 rfl C dJ8_balanceInsertion_228 rfl (fun u174 => ?_) (fun a175 u174 => ?_)
    · have w := w.1 u174
      refine g_sub [some none, some none, none, none, none, none] [] rfl rfl ?_
      exact k5 _ _ _ w
    · have w := w.2 a175 u174
      refine g_aload_n 232 rfl C dJ8_balanceInsertion_231 rfl ?_
      refine g_iconst 233 rfl C dJ8_balanceInsertion_232 1 rfl ?_
      refine g_putZ 236 rfl C dJ8_balanceInsertion_233 fl_HashMap_TreeNode_93 rfl rfl (Or.inr rfl) u174 rfl ?_
      have w := w _ rfl
      refine g_aload_n 237 rfl C dJ8_balanceInsertion_236 rfl ?_
      refine g_aload_n 238 rfl C dJ8_balanceInsertion_237 rfl ?_
      refine g_callS (As := [vR [7] _, vR [7] _]) (st := []) 241 rfl C dJ8_balanceInsertion_238 q358 q359 q21 q360 okn_1ce7d6 (by decide) (by decide) (Nat.le_of_ble_eq_true rfl) rfl (ct_J8_rotateLeft C.glob w) (fun r0 h179 p180 x181 _ => ?_)
      obtain ⟨r178, rfl, w⟩ := p180
      have w := w x181
      change Gd _ _ _ _ (vR [7] r178 :: [])
      refine g_astore_n 242 rfl C dJ8_balanceInsertion_241 (by decide) (rfl : _ = [some (vR [7] _), some (vR [7] _), some (vR [7] _), some (vR [7] _), none, none]) ?_
      refine g_goto 5 C dJ8_balanceInsertion_242 rfl ?_
      refine g_sub [some none, some none, none, none, none, none] [] rfl rfl ?_
      exact k5 _ _ _ w
def wp_J8_balanceInsertion_b217 (G5 : Hp → Option Nat → Option Nat → Prop) (K : Option Nat → Hp → Prop) (h : Hp) (l0 : Option Nat) (l1 : Option Nat) (l2 : Option Nat) (s0 : Option Nat) : Prop :=
  (wp_J8_balanceInsertion_b218 G5 K h l0 l1 l2 s0)
set_option maxHeartbeats 4000000 in
theorem wk_J8_balanceInsertion_b217 {X : Fx} {K : Option Nat → Hp → Prop} (C : Cx X cJ8_balanceInsertion yJ8_balanceInsertion.cls 6 3) (Rr : Rx X (Option.some (Jvm.ClassFile.FieldType.object "java/util/HashMap$TreeNode")) (pR [7] K)) (N : Nm X yJ8_balanceInsertion.name) {G5 : Hp → Option Nat → Option Nat → Prop} (k5 : ∀ (h : Hp) (l0 : Option Nat) (l1 : Option Nat), G5 h l0 l1 → Gd X h 5 [some (vR [7] l0), some (vR [7] l1), none, none, none, none] []) (h : Hp) (l0 : Option Nat) (l1 : Option Nat) (l2 : Option Nat) (s0 : Option Nat) (w : wp_J8_balanceInsertion_b217 G5 K h l0 l1 l2 s0) : Gd X h 217 [some (vR [7] l0), some (vR [7] l1), some (vR [7] l2), none, none, none] [vR [7] s0] := by
  unfold wp_J8_balanceInsertion_b217 at w
  refine g_astore_n 218 rfl C dJ8_balanceInsertion_217 (by decide) (rfl : _ = [some (vR [7] _), some (vR [7] _), some (vR [7] _), some (vR [7] _), none, none]) ?_
  refine g_sub [some none, some none, some none, some none, none, none] [] rfl rfl ?_
  exact wk_J8_balanceInsertion_b218 C Rr N k5 _ _ _ _ _ w
def wp_J8_balanceInsertion_b184 (G5 : Hp → Option Nat → Option Nat → Prop) (K : Option Nat → Hp → Prop) (h : Hp) (l0 : Option Nat) (l1 : Option Nat) (l2 : Option Nat) (l3 : Option Nat) : Prop :=
  (∃ a151, l2 = some a151 ∧ ((¬ l1 = (rf h 7 a151) → (wp_J8_balanceInsertion_b218 G5 K h l0 l1 l2 l3)) ∧ (l1 = (rf h 7 a151) → (wp_J8_rotateRight h l0 l2 (fun r155 h156 => Ex h h156 → (((rf h156 6 a151) = none → (wp_J8_balanceInsertion_b217 G5 K h156 r155 l2 (rf h156 6 a151) none)) ∧ (∀ a160, (rf h156 6 a151) = some a160 → (wp_J8_balanceInsertion_b217 G5 K h156 r155 l2 (rf h156 6 a151) (rf h156 6 a160)))))))))
set_option maxHeartbeats 4000000 in
theorem wk_J8_balanceInsertion_b184 {X : Fx} {K : Option Nat → Hp → Prop} (C : Cx X cJ8_balanceInsertion yJ8_balanceInsertion.cls 6 3) (Rr : Rx X (Option.some (Jvm.ClassFile.FieldType.object "java/util/HashMap$TreeNode")) (pR [7] K)) (N : Nm X yJ8_balanceInsertion.name) {G5 : Hp → Option Nat → Option Nat → Prop} (k5 : ∀ (h : Hp) (l0 : Option Nat) (l1 : Option Nat), G5 h l0 l1 → Gd X h 5 [some (vR [7] l0), some (vR [7] l1), none, none, none, none] []) (h : Hp) (l0 : Option Nat) (l1 : Option Nat) (l2 : Option Nat) (l3 : Option Nat) (w : wp_J8_balanceInsertion_b184 G5 K h l0 l1 l2 l3) : Gd X h 184 [some (vR [7] l0), some (vR [7] l1), some (vR [7] l2), some (vR [7] l3), none, none] [] := by
  unfold wp_J8_balanceInsertion_b184 at w
  refine g_aload_n 185 rfl C dJ8_balanceInsertion_184 rfl ?_
  refine g_aload_n 186 rfl C dJ8_balanceInsertion_185 rfl ?_
  obtain ⟨a151, e152, w⟩ := w
  refine g_getR 189 rfl C dJ8_balanceInsertion_186 fl_HashMap_TreeNode_39 rfl e152 rfl ?_
  refine g_acmp_ne 192 218 rfl C dJ8_balanceInsertion_189 rfl (fun u153 => ?_) (fun u153 => ?_)
  · have w := w.1 u153
    refine g_sub [some none, some none, some none, some none, none, none] [] rfl rfl ?_
    exact wk_J8_balanceInsertion_b218 C Rr N k5 _ _ _ _ _ w
  · have w := w.2 u153
    refine g_aload_n 193 rfl C dJ8_balanceInsertion_192 rfl ?_
    refine g_aload_n 194 rfl C dJ8_balanceInsertion_193 rfl ?_
    refine g_dup 195 rfl C dJ8_balanceInsertion_194 rfl ?_
    refine g_astore_n 196 rfl C dJ8_balanceInsertion_195 (by decide) (rfl : _ = [some (vR [7] _), some (vR [7] _), some (vR [7] _), some (vR [7] _), none, none]) ?_
    refine g_callS (As := [vR [7] _, vR [7] _]) (st := []) 199 rfl C dJ8_balanceInsertion_196 q361 q362 q21 q363 okn_3b0f86 (by decide) (by decide) (Nat.le_of_ble_eq_true rfl) rfl (ct_J8_rotateRight C.glob w) (fun r0 h156 p157 x158 _ => ?_)
    obtain ⟨r155, rfl, w⟩ := p157
    have w := w x158
    change Gd _ _ _ _ (vR [7] r155 :: [])
    refine g_astore_n 200 rfl C dJ8_balanceInsertion_199 (by decide) (rfl : _ = [some (vR [7] _), some (vR [7] _), some (vR [7] _), some (vR [7] _), none, none]) ?_
    refine g_aload_n 201 rfl C dJ8_balanceInsertion_200 rfl ?_
    refine g_getR 204 rfl C dJ8_balanceInsertion_201 fl_HashMap_TreeNode_9 rfl e152 rfl ?_
    refine g_dup 205 rfl C dJ8_balanceInsertion_204 rfl ?_
    refine g_astore_n 206 rfl C dJ8_balanceInsertion_205 (by decide) (rfl : _ = [some (vR [7] _), some (vR [7] _), some (vR [7] _), some (vR [7] _), none, none]) ?_
    refine g_ifnonnull 209 213 rfl C dJ8_balanceInsertion_206 rfl (fun a160 u159 => ?_) (fun u159 => ?_)
    · have w := w.2 a160 u159
      refine g_aload_n 214 rfl C dJ8_balanceInsertion_213 rfl ?_
      refine g_getR 217 rfl C dJ8_balanceInsertion_214 fl_HashMap_TreeNode_9 rfl u159 rfl ?_
      refine g_sub [some none, some none, some none, none, none, none] [none] rfl rfl ?_
      exact wk_J8_balanceInsertion_b217 C Rr N k5 _ _ _ _ _ w
    · have w := w.1 u159
      refine g_null 210 rfl C dJ8_balanceInsertion_209 ?_
      refine g_goto 217 C dJ8_balanceInsertion_210 rfl ?_
      refine g_sub [some none, some none, some none, none, none, none] [some [7]] rfl rfl ?_
      exact wk_J8_balanceInsertion_b217 C Rr N k5 _ _ _ _ _ w
def wp_J8_balanceInsertion_b5 (K : Option Nat → Hp → Prop) : Nat → Hp → Option Nat → Option Nat → Prop
  | 0 => fun _ _ _ => False
  | m9 + 1 => fun h l0 l1 =>
    (∃ a127, l1 = some a127 ∧ (((rf h 6 a127) = none → (∀ h131, h131 = wI h 10 a127 0 → (K l1 h131))) ∧ (∀ a130, (rf h 6 a127) = some a130 → ((it h 10 a130) = 0 ∨ (it h 10 a130) = 1 → (((it h 10 a130) = 0 → (wp_J8_balanceInsertion_b37 K h l0)) ∧ (¬ (it h 10 a130) = 0 → (((rf h 6 a130) = none → (wp_J8_balanceInsertion_b37 K h l0)) ∧ (∀ a135, (rf h 6 a130) = some a135 → ((¬ (rf h 6 a127) = (rf h 7 a135) → (((rf h 7 a135) = none → (wp_J8_balanceInsertion_b184 (wp_J8_balanceInsertion_b5 K m9) K h l0 l1 (rf h 6 a127) (rf h 6 a130))) ∧ (∀ a138, (rf h 7 a135) = some a138 → ((it h 10 a138) = 0 ∨ (it h 10 a138) = 1 → (((it h 10 a138) = 0 → (wp_J8_balanceInsertion_b184 (wp_J8_balanceInsertion_b5 K m9) K h l0 l1 (rf h 6 a127) (rf h 6 a130))) ∧ (¬ (it h 10 a138) = 0 → (∀ h141, h141 = wI h 10 a138 0 → (∀ h142, h142 = wI h141 10 a130 0 → (∀ h143, h143 = wI h142 10 a135 1 → (wp_J8_balanceInsertion_b5 K m9 h143 l0 (rf h 6 a130))))))))))) ∧ ((rf h 6 a127) = (rf h 7 a135) → (((rf h 8 a135) = none → (wp_J8_balanceInsertion_b89 (wp_J8_balanceInsertion_b5 K m9) K h l0 l1 (rf h 6 a127) (rf h 6 a130))) ∧ (∀ a145, (rf h 8 a135) = some a145 → ((it h 10 a145) = 0 ∨ (it h 10 a145) = 1 → (((it h 10 a145) = 0 → (wp_J8_balanceInsertion_b89 (wp_J8_balanceInsertion_b5 K m9) K h l0 l1 (rf h 6 a127) (rf h 6 a130))) ∧ (¬ (it h 10 a145) = 0 → (∀ h148, h148 = wI h 10 a145 0 → (∀ h149, h149 = wI h148 10 a130 0 → (∀ h150, h150 = wI h149 10 a135 1 → (wp_J8_balanceInsertion_b5 K m9 h150 l0 (rf h 6 a130))))))))))))))))))))
set_option maxHeartbeats 4000000 in
theorem wk_J8_balanceInsertion_b5 {X : Fx} {K : Option Nat → Hp → Prop} (C : Cx X cJ8_balanceInsertion yJ8_balanceInsertion.cls 6 3) (Rr : Rx X (Option.some (Jvm.ClassFile.FieldType.object "java/util/HashMap$TreeNode")) (pR [7] K)) (N : Nm X yJ8_balanceInsertion.name) : ∀ (n : Nat) (h : Hp) (l0 : Option Nat) (l1 : Option Nat), wp_J8_balanceInsertion_b5 K n h l0 l1 → Gd X h 5 [some (vR [7] l0), some (vR [7] l1), none, none, none, none] [] := by
  intro n
  induction n with
  | zero => intro h l0 l1 w; exact w.elim
  | succ n ih =>
    intro h l0 l1 w
    unfold wp_J8_balanceInsertion_b5 at w
    refine g_aload_n 6 rfl C dJ8_balanceInsertion_5 rfl ?_
    obtain ⟨a127, e128, w⟩ := w
    refine g_getR 9 rfl C dJ8_balanceInsertion_6 fl_HashMap_TreeNode_9 rfl e128 rfl ?_
    refine g_dup 10 rfl C dJ8_balanceInsertion_9 rfl ?_
    refine g_astore_n 11 rfl C dJ8_balanceInsertion_10 (by decide) (rfl : _ = [some (vR [7] _), some (vR [7] _), some (vR [7] _), none, none, none]) ?_
    refine g_ifnonnull 14 21 rfl C dJ8_balanceInsertion_11 rfl (fun a130 u129 => ?_) (fun u129 => ?_)
    · have w := w.2 a130 u129
      refine g_aload_n 22 rfl C dJ8_balanceInsertion_21 rfl ?_
      refine g_getZ 25 rfl C dJ8_balanceInsertion_22 fl_HashMap_TreeNode_93 rfl u129 rfl (fun z132 => ?_)
      have w := w z132
      refine g_if_eq 28 37 rfl C dJ8_balanceInsertion_25 rfl (fun u133 => ?_) (fun u133 => ?_)
      · have w := w.1 u133
        refine g_sub [some none, none, none, none, none, none] [] rfl rfl ?_
        exact wk_J8_balanceInsertion_b37 C Rr N _ _ w
      · have w := w.2 u133
        refine g_aload_n 29 rfl C dJ8_balanceInsertion_28 rfl ?_
        refine g_getR 32 rfl C dJ8_balanceInsertion_29 fl_HashMap_TreeNode_9 rfl u129 rfl ?_
        refine g_dup 33 rfl C dJ8_balanceInsertion_32 rfl ?_
        refine g_astore_n 34 rfl C dJ8_balanceInsertion_33 (by decide) (rfl : _ = [some (vR [7] _), some (vR [7] _), some (vR [7] _), some (vR [7] _), none, none]) ?_
        refine g_ifnonnull 37 39 rfl C dJ8_balanceInsertion_34 rfl (fun a135 u134 => ?_) (fun u134 => ?_)
        · have w := w.2 a135 u134
          refine g_aload_n 40 rfl C dJ8_balanceInsertion_39 rfl ?_
          refine g_aload_n 41 rfl C dJ8_balanceInsertion_40 rfl ?_
          refine g_getR 44 rfl C dJ8_balanceInsertion_41 fl_HashMap_TreeNode_39 rfl u134 rfl ?_
          refine g_dup 45 rfl C dJ8_balanceInsertion_44 rfl ?_
          refine g_astore 47 rfl C dJ8_balanceInsertion_45 (by decide) (rfl : _ = [some (vR [7] _), some (vR [7] _), some (vR [7] _), some (vR [7] _), some (vR [7] _), none]) ?_
          refine g_acmp_ne 50 150 rfl C dJ8_balanceInsertion_47 rfl (fun u136 => ?_) (fun u136 => ?_)
          · have w := w.1 u136
            refine g_aload 152 rfl C dJ8_balanceInsertion_150 rfl ?_
            refine g_ifnull 155 184 rfl C dJ8_balanceInsertion_152 rfl (fun u137 => ?_) (fun a138 u137 => ?_)
            · have w := w.1 u137
              refine g_sub [some none, some none, some none, some none, none, none] [] rfl rfl ?_
              exact wk_J8_balanceInsertion_b184 C Rr N ih _ _ _ _ _ w
            · have w := w.2 a138 u137
              refine g_aload 157 rfl C dJ8_balanceInsertion_155 rfl ?_
              refine g_getZ 160 rfl C dJ8_balanceInsertion_157 fl_HashMap_TreeNode_93 rfl u137 rfl (fun z139 => ?_)
              have w := w z139
              refine g_if_eq 163 184 rfl C dJ8_balanceInsertion_160 rfl (fun u140 => ?_) (fun u140 => ?_)
              · have w := w.1 u140
                refine g_sub [some none, some none, some none, some none, none, none] [] rfl rfl ?_
                exact wk_J8_balanceInsertion_b184 C Rr N ih _ _ _ _ _ w
              · have w := w.2 u140
                refine g_aload 165 rfl C dJ8_balanceInsertion_163 rfl ?_
                refine g_iconst 166 rfl C dJ8_balanceInsertion_165 0 rfl ?_
                refine g_putZ 169 rfl C dJ8_balanceInsertion_166 fl_HashMap_TreeNode_93 rfl rfl (Or.inl rfl) u137 rfl ?_
                have w := w _ rfl
                refine g_aload_n 170 rfl C dJ8_balanceInsertion_169 rfl ?_
                refine g_iconst 171 rfl C dJ8_balanceInsertion_170 0 rfl ?_
                refine g_putZ 174 rfl C dJ8_balanceInsertion_171 fl_HashMap_TreeNode_93 rfl rfl (Or.inl rfl) u129 rfl ?_
                have w := w _ rfl
                refine g_aload_n 175 rfl C dJ8_balanceInsertion_174 rfl ?_
                refine g_iconst 176 rfl C dJ8_balanceInsertion_175 1 rfl ?_
                refine g_putZ 179 rfl C dJ8_balanceInsertion_176 fl_HashMap_TreeNode_93 rfl rfl (Or.inr rfl) u134 rfl ?_
                have w := w _ rfl
                refine g_aload_n 180 rfl C dJ8_balanceInsertion_179 rfl ?_
                refine g_astore_n 181 rfl C dJ8_balanceInsertion_180 (by decide) (rfl : _ = [some (vR [7] _), some (vR [7] _), some (vR [7] _), some (vR [7] _), some (vR [7] _), none]) ?_
                refine g_goto 5 C dJ8_balanceInsertion_181 rfl ?_
                refine g_sub [some none, some none, none, none, none, none] [] rfl rfl ?_
                exact ih _ _ _ w
          · have w := w.2 u136
            refine g_aload_n 51 rfl C dJ8_balanceInsertion_50 rfl ?_
            refine g_getR 54 rfl C dJ8_balanceInsertion_51 fl_HashMap_TreeNode_42 rfl u134 rfl ?_
            refine g_dup 55 rfl C dJ8_balanceInsertion_54 rfl ?_
            refine g_astore 57 rfl C dJ8_balanceInsertion_55 (by decide) (rfl : _ = [some (vR [7] _), some (vR [7] _), some (vR [7] _), some (vR [7] _), some (vR [7] _), some (vR [7] _)]) ?_
            refine g_ifnull 60 89 rfl C dJ8_balanceInsertion_57 rfl (fun u144 => ?_) (fun a145 u144 => ?_)
            · have w := w.1 u144
              refine g_sub [some none, some none, some none, some none, none, none] [] rfl rfl ?_
              exact wk_J8_balanceInsertion_b89 C Rr N ih _ _ _ _ _ w
            · have w := w.2 a145 u144
              refine g_aload 62 rfl C dJ8_balanceInsertion_60 rfl ?_
              refine g_getZ 65 rfl C dJ8_balanceInsertion_62 fl_HashMap_TreeNode_93 rfl u144 rfl (fun z146 => ?_)
              have w := w z146
              refine g_if_eq 68 89 rfl C dJ8_balanceInsertion_65 rfl (fun u147 => ?_) (fun u147 => ?_)
              · have w := w.1 u147
                refine g_sub [some none, some none, some none, some none, none, none] [] rfl rfl ?_
                exact wk_J8_balanceInsertion_b89 C Rr N ih _ _ _ _ _ w
              · have w := w.2 u147
                refine g_aload 70 rfl C dJ8_balanceInsertion_68 rfl ?_
                refine g_iconst 71 rfl C dJ8_balanceInsertion_70 0 rfl ?_
                refine g_putZ 74 rfl C dJ8_balanceInsertion_71 fl_HashMap_TreeNode_93 rfl rfl (Or.inl rfl) u144 rfl ?_
                have w := w _ rfl
                refine g_aload_n 75 rfl C dJ8_balanceInsertion_74 rfl ?_
                refine g_iconst 76 rfl C dJ8_balanceInsertion_75 0 rfl ?_
                refine g_putZ 79 rfl C dJ8_balanceInsertion_76 fl_HashMap_TreeNode_93 rfl rfl (Or.inl rfl) u129 rfl ?_
                have w := w _ rfl
                refine g_aload_n 80 rfl C dJ8_balanceInsertion_79 rfl ?_
                refine g_iconst 81 rfl C dJ8_balanceInsertion_80 1 rfl ?_
                refine g_putZ 84 rfl C dJ8_balanceInsertion_81 fl_HashMap_TreeNode_93 rfl rfl (Or.inr rfl) u134 rfl ?_
                have w := w _ rfl
                refine g_aload_n 85 rfl C dJ8_balanceInsertion_84 rfl ?_
                refine g_astore_n 86 rfl C dJ8_balanceInsertion_85 (by decide) (rfl : _ = [some (vR [7] _), some (vR [7] _), some (vR [7] _), some (vR [7] _), some (vR [7] _), some (vR [7] _)]) ?_
                refine g_goto 5 C dJ8_balanceInsertion_86 rfl ?_
                refine g_sub [some none, some none, none, none, none, none] [] rfl rfl ?_
                exact ih _ _ _ w
        · have w := w.1 u134
          refine g_sub [some none, none, none, none, none, none] [] rfl rfl ?_
          exact wk_J8_balanceInsertion_b37 C Rr N _ _ w
    · have w := w.1 u129
      refine g_aload_n 15 rfl C dJ8_balanceInsertion_14 rfl ?_
      refine g_iconst 16 rfl C dJ8_balanceInsertion_15 0 rfl ?_
      refine g_putZ 19 rfl C dJ8_balanceInsertion_16 fl_HashMap_TreeNode_93 rfl rfl (Or.inl rfl) e128 rfl ?_
      have w := w _ rfl
      refine g_aload_n 20 rfl C dJ8_balanceInsertion_19 rfl ?_
      exact g_areturn [7] C Rr rfl dJ8_balanceInsertion_20 rfl ⟨_, rfl, w⟩
def wp_J8_balanceInsertion (h : Hp) (x0 : Option Nat) (x1 : Option Nat) (K : Option Nat → Hp → Prop) : Prop :=
  (∃ a124, x1 = some a124 ∧ (∀ h126, h126 = wI h 10 a124 1 → (∃ n, wp_J8_balanceInsertion_b5 K n h126 x0 x1)))
set_option maxHeartbeats 4000000 in
theorem wk_J8_balanceInsertion {X : Fx} {K : Option Nat → Hp → Prop} (C : Cx X cJ8_balanceInsertion yJ8_balanceInsertion.cls 6 3) (Rr : Rx X (Option.some (Jvm.ClassFile.FieldType.object "java/util/HashMap$TreeNode")) (pR [7] K)) (N : Nm X yJ8_balanceInsertion.name) (h : Hp) (x0 : Option Nat) (x1 : Option Nat) (w : wp_J8_balanceInsertion h x0 x1 K) : Gd X h 0 [some (vR [7] x0), some (vR [7] x1), none, none, none, none] [] := by
  unfold wp_J8_balanceInsertion at w
  refine g_aload_n 1 rfl C dJ8_balanceInsertion_0 rfl ?_
  refine g_iconst 2 rfl C dJ8_balanceInsertion_1 1 rfl ?_
  obtain ⟨a124, e125, w⟩ := w
  refine g_putZ 5 rfl C dJ8_balanceInsertion_2 fl_HashMap_TreeNode_93 rfl rfl (Or.inr rfl) e125 rfl ?_
  have w := w _ rfl
  refine g_sub [some none, some none, none, none, none, none] [] rfl rfl ?_
  obtain ⟨n9, w⟩ := w
  exact wk_J8_balanceInsertion_b5 C Rr N n9 _ _ _ w
theorem ct_J8_balanceInsertion {E : Gx} (GE : Glob E) {h : Hp} {x0 : Option Nat} {x1 : Option Nat} {K : Option Nat → Hp → Prop} (w : wp_J8_balanceInsertion h x0 x1 K) : Ct E yJ8_balanceInsertion cJ8_balanceInsertion 6 (Option.some (Jvm.ClassFile.FieldType.object "java/util/HashMap$TreeNode")) 3 [vR [7] x0, vR [7] x1] h (pR [7] K) :=
  Ct.of GE (by decide +kernel) (by simp [lvA, t2]) rfl (fun X hX C Rr N => wk_J8_balanceInsertion C Rr N h x0 x1 w)
def wp_J8_moveRootToFront_b123 (K : Hp → Prop) (h : Hp)  : Prop :=
  (K h)
set_option maxHeartbeats 4000000 in
theorem wk_J8_moveRootToFront_b123 {X : Fx} {K : Hp → Prop} (C : Cx X cJ8_moveRootToFront yJ8_moveRootToFront.cls 7 2) (Rr : Rx X (Option.none : Option Jvm.ClassFile.FieldType) (pV K)) (N : Nm X yJ8_moveRootToFront.name) (h : Hp)  (w : wp_J8_moveRootToFront_b123 K h ) : Gd X h 123 [none, none, none, none, none, none, none] [] := by
  unfold wp_J8_moveRootToFront_b123 at w
  exact g_vreturn C Rr dJ8_moveRootToFront_123 ⟨rfl, w⟩
def wp_J8_moveRootToFront_b102 (K : Hp → Prop) (h : Hp) (l1 : Option Nat) : Prop :=
  (wp_J8_moveRootToFront_b123 K h)
set_option maxHeartbeats 4000000 in
theorem wk_J8_moveRootToFront_b102 {X : Fx} {K : Hp → Prop} (C : Cx X cJ8_moveRootToFront yJ8_moveRootToFront.cls 7 2) (Rr : Rx X (Option.none : Option Jvm.ClassFile.FieldType) (pV K)) (N : Nm X yJ8_moveRootToFront.name) (h : Hp) (l1 : Option Nat) (w : wp_J8_moveRootToFront_b102 K h l1) : Gd X h 102 [none, some (vR [7] l1), none, none, none, none, none] [] := by
  unfold wp_J8_moveRootToFront_b102 at w
  refine g_assert 105 rfl C dJ8_moveRootToFront_102 q367 ?_
  refine g_if_ne 108 123 rfl C dJ8_moveRootToFront_105 rfl (fun _ => ?_) (fun q => absurd q (by decide))
  refine g_sub [none, none, none, none, none, none, none] [] rfl rfl ?_
  exact wk_J8_moveRootToFront_b123 C Rr N _ w
def wp_J8_moveRootToFront_b91 (K : Hp → Prop) (h : Hp) (l1 : Option Nat) (l4 : Option Nat) : Prop :=
  (∃ a76, l1 = some a76 ∧ (∀ h78, h78 = wR h 3 a76 l4 → (∀ h79, h79 = wR h78 9 a76 none → (wp_J8_moveRootToFront_b102 K h79 l1))))
set_option maxHeartbeats 4000000 in
theorem wk_J8_moveRootToFront_b91 {X : Fx} {K : Hp → Prop} (C : Cx X cJ8_moveRootToFront yJ8_moveRootToFront.cls 7 2) (Rr : Rx X (Option.none : Option Jvm.ClassFile.FieldType) (pV K)) (N : Nm X yJ8_moveRootToFront.name) (h : Hp) (l1 : Option Nat) (l4 : Option Nat) (w : wp_J8_moveRootToFront_b91 K h l1 l4) : Gd X h 91 [none, some (vR [7] l1), none, none, some (vR [7] l4), none, none] [] := by
  unfold wp_J8_moveRootToFront_b91 at w
  refine g_aload_n 92 rfl C dJ8_moveRootToFront_91 rfl ?_
  refine g_aload 94 rfl C dJ8_moveRootToFront_92 rfl ?_
  obtain ⟨a76, e77, w⟩ := w
  refine g_putR 97 rfl C dJ8_moveRootToFront_94 fl_HashMap_TreeNode_22 rfl rfl rfl e77 rfl ?_
  have w := w _ rfl
  refine g_aload_n 98 rfl C dJ8_moveRootToFront_97 rfl ?_
  refine g_null 99 rfl C dJ8_moveRootToFront_98 ?_
  refine g_putR 102 rfl C dJ8_moveRootToFront_99 fl_HashMap_TreeNode_19 rfl rfl rfl e77 rfl ?_
  have w := w _ rfl
  refine g_sub [none, some none, none, none, none, none, none] [] rfl rfl ?_
  exact wk_J8_moveRootToFront_b102 C Rr N _ _ w
def wp_J8_moveRootToFront_b80 (K : Hp → Prop) (h : Hp) (l1 : Option Nat) (l4 : Option Nat) : Prop :=
  ((l4 = none → (wp_J8_moveRootToFront_b91 K h l1 l4)) ∧ (∀ a52, l4 = some a52 → (∀ h53, h53 = wR h 9 a52 l1 → (wp_J8_moveRootToFront_b91 K h53 l1 l4))))
set_option maxHeartbeats 4000000 in
theorem wk_J8_moveRootToFront_b80 {X : Fx} {K : Hp → Prop} (C : Cx X cJ8_moveRootToFront yJ8_moveRootToFront.cls 7 2) (Rr : Rx X (Option.none : Option Jvm.ClassFile.FieldType) (pV K)) (N : Nm X yJ8_moveRootToFront.name) (h : Hp) (l1 : Option Nat) (l4 : Option Nat) (w : wp_J8_moveRootToFront_b80 K h l1 l4) : Gd X h 80 [none, some (vR [7] l1), none, none, some (vR [7] l4), none, none] [] := by
  unfold wp_J8_moveRootToFront_b80 at w
  refine g_aload 82 rfl C dJ8_moveRootToFront_80 rfl ?_
  refine g_ifnull 85 91 rfl C dJ8_moveRootToFront_82 rfl (fun u51 => ?_) (fun a52 u51 => ?_)
  · have w := w.1 u51
    refine g_sub [none, some none, none, none, some none, none, none] [] rfl rfl ?_
    exact wk_J8_moveRootToFront_b91 C Rr N _ _ _ w
  · have w := w.2 a52 u51
    refine g_aload 87 rfl C dJ8_moveRootToFront_85 rfl ?_
    refine g_aload_n 88 rfl C dJ8_moveRootToFront_87 rfl ?_
    refine g_putR 91 rfl C dJ8_moveRootToFront_88 fl_HashMap_TreeNode_19 rfl rfl rfl u51 rfl ?_
    have w := w _ rfl
    refine g_sub [none, some none, none, none, some none, none, none] [] rfl rfl ?_
    exact wk_J8_moveRootToFront_b91 C Rr N _ _ _ w
def wp_J8_moveRootToFront_b68 (K : Hp → Prop) (h : Hp) (l1 : Option Nat) (l4 : Option Nat) (l5 : Option Nat) (l6 : Option Nat) : Prop :=
  ((l6 = none → (wp_J8_moveRootToFront_b80 K h l1 l4)) ∧ (∀ a74, l6 = some a74 → (∀ h75, h75 = wR h 3 a74 l5 → (wp_J8_moveRootToFront_b80 K h75 l1 l4))))
set_option maxHeartbeats 4000000 in
theorem wk_J8_moveRootToFront_b68 {X : Fx} {K : Hp → Prop} (C : Cx X cJ8_moveRootToFront yJ8_moveRootToFront.cls 7 2) (Rr : Rx X (Option.none : Option Jvm.ClassFile.FieldType) (pV K)) (N : Nm X yJ8_moveRootToFront.name) (h : Hp) (l1 : Option Nat) (l4 : Option Nat) (l5 : Option Nat) (l6 : Option Nat) (w : wp_J8_moveRootToFront_b68 K h l1 l4 l5 l6) : Gd X h 68 [none, some (vR [7] l1), none, none, some (vR [7] l4), some (vR [5, 6, 7] l5), some (vR [7] l6)] [] := by
  unfold wp_J8_moveRootToFront_b68 at w
  refine g_aload 70 rfl C dJ8_moveRootToFront_68 rfl ?_
  refine g_ifnull 73 80 rfl C dJ8_moveRootToFront_70 rfl (fun u73 => ?_) (fun a74 u73 => ?_)
  · have w := w.1 u73
    refine g_sub [none, some none, none, none, some none, none, none] [] rfl rfl ?_
    exact wk_J8_moveRootToFront_b80 C Rr N _ _ _ w
  · have w := w.2 a74 u73
    refine g_aload 75 rfl C dJ8_moveRootToFront_73 rfl ?_
    refine g_aload 77 rfl C dJ8_moveRootToFront_75 rfl ?_
    refine g_putR 80 rfl C dJ8_moveRootToFront_77 fl_HashMap_TreeNode_22 rfl rfl rfl u73 rfl ?_
    have w := w _ rfl
    refine g_sub [none, some none, none, none, some none, none, none] [] rfl rfl ?_
    exact wk_J8_moveRootToFront_b80 C Rr N _ _ _ w
def wp_J8_moveRootToFront (h : Hp) (x0 : Option Nat) (x1 : Option Nat) (K : Hp → Prop) : Prop :=
  ((x1 = none → (wp_J8_moveRootToFront_b123 K h)) ∧ (∀ a55, x1 = some a55 → ((x0 = none → (wp_J8_moveRootToFront_b123 K h)) ∧ (∀ a57, x0 = some a57 → (ln h a57 < 2 ^ 26 → (((nI (ln h a57)) ≤ 0 → (wp_J8_moveRootToFront_b123 K h)) ∧ (¬ (nI (ln h a57)) ≤ 0 → (∃ j60, (((nI (ln h a57)) - 1) &&& (it h 0 a55)) = nI j60 ∧ j60 < ln h a57 ∧ ((∀ a, (rf h (100 + j60) a57) = some a → kd h a ∈ [7]) ∧ ((x1 = (rf h (100 + j60) a57) → (wp_J8_moveRootToFront_b102 K h x1)) ∧ (¬ x1 = (rf h (100 + j60) a57) → (∃ j65, (((nI (ln h a57)) - 1) &&& (it h 0 a55)) = nI j65 ∧ j65 < ln h a57 ∧ ∀ h68, h68 = wR h (100 + j65) a57 x1 → (((rf h68 3 a55) = none → (wp_J8_moveRootToFront_b68 K h68 x1 (rf h (100 + j60) a57) (rf h68 3 a55) (rf h68 9 a55))) ∧ (∀ a70, (rf h68 3 a55) = some a70 → ((∀ a, (rf h68 3 a55) = some a → kd h68 a ∈ [7]) ∧ (∀ h72, h72 = wR h68 9 a70 (rf h68 9 a55) → (wp_J8_moveRootToFront_b68 K h72 x1 (rf h (100 + j60) a57) (rf h68 3 a55) (rf h68 9 a55))))))))))))))))))
set_option maxHeartbeats 4000000 in
theorem wk_J8_moveRootToFront {X : Fx} {K : Hp → Prop} (C : Cx X cJ8_moveRootToFront yJ8_moveRootToFront.cls 7 2) (Rr : Rx X (Option.none : Option Jvm.ClassFile.FieldType) (pV K)) (N : Nm X yJ8_moveRootToFront.name) (h : Hp) (x0 : Option Nat) (x1 : Option Nat) (w : wp_J8_moveRootToFront h x0 x1 K) : Gd X h 0 [some (vR [51] x0), some (vR [7] x1), none, none, none, none, none] [] := by
  unfold wp_J8_moveRootToFront at w
  refine g_aload_n 1 rfl C dJ8_moveRootToFront_0 rfl ?_
  refine g_ifnull 4 123 rfl C dJ8_moveRootToFront_1 rfl (fun u54 => ?_) (fun a55 u54 => ?_)
  · have w := w.1 u54
    refine g_sub [none, none, none, none, none, none, none] [] rfl rfl ?_
    exact wk_J8_moveRootToFront_b123 C Rr N _ w
  · have w := w.2 a55 u54
    refine g_aload_n 5 rfl C dJ8_moveRootToFront_4 rfl ?_
    refine g_ifnull 8 123 rfl C dJ8_moveRootToFront_5 rfl (fun u56 => ?_) (fun a57 u56 => ?_)
    · have w := w.1 u56
      refine g_sub [none, none, none, none, none, none, none] [] rfl rfl ?_
      exact wk_J8_moveRootToFront_b123 C Rr N _ w
    · have w := w.2 a57 u56
      refine g_aload_n 9 rfl C dJ8_moveRootToFront_8 rfl ?_
      refine g_alen 10 rfl C dJ8_moveRootToFront_9 u56 rfl (fun u58 => ?_)
      have w := w u58
      refine g_dup 11 rfl C dJ8_moveRootToFront_10 rfl ?_
      refine g_istore_n 12 rfl C dJ8_moveRootToFront_11 (by decide) (rfl : _ = [some (vR [51] _), some (vR [7] _), some (vI _), none, none, none, none]) ?_
      refine g_if_le 15 123 rfl C dJ8_moveRootToFront_12 rfl (fun u59 => ?_) (fun u59 => ?_)
      · have w := w.1 u59
        refine g_sub [none, none, none, none, none, none, none] [] rfl rfl ?_
        exact wk_J8_moveRootToFront_b123 C Rr N _ w
      · have w := w.2 u59
        refine g_iload_n 16 rfl C dJ8_moveRootToFront_15 rfl ?_
        refine g_iconst 17 rfl C dJ8_moveRootToFront_16 1 rfl ?_
        refine g_isub 18 rfl C dJ8_moveRootToFront_17 ?_
        refine g_aload_n 19 rfl C dJ8_moveRootToFront_18 rfl ?_
        refine g_getI 22 rfl C dJ8_moveRootToFront_19 fl_HashMap_TreeNode_15 rfl u54 rfl ?_
        refine g_iand 23 rfl C dJ8_moveRootToFront_22 ?_
        refine g_istore_n 24 rfl C dJ8_moveRootToFront_23 (by decide) (rfl : _ = [some (vR [51] _), some (vR [7] _), some (vI _), some (vI _), none, none, none]) ?_
        refine g_aload_n 25 rfl C dJ8_moveRootToFront_24 rfl ?_
        refine g_iload_n 26 rfl C dJ8_moveRootToFront_25 rfl ?_
        obtain ⟨j60, e61, e62, w⟩ := w
        refine g_aaload 51 27 rfl C dJ8_moveRootToFront_26 (by decide) u56 e61 e62 ?_
        obtain ⟨k63, w⟩ := w
        refine g_cast [7] 30 rfl C dJ8_moveRootToFront_27 q227 co_HashMap_TreeNode_7 (fun a q _ => k63 a q) ?_
        refine g_astore 32 rfl C dJ8_moveRootToFront_30 (by decide) (rfl : _ = [some (vR [51] _), some (vR [7] _), some (vI _), some (vI _), some (vR [7] _), none, none]) ?_
        refine g_aload_n 33 rfl C dJ8_moveRootToFront_32 rfl ?_
        refine g_aload 35 rfl C dJ8_moveRootToFront_33 rfl ?_
        refine g_acmp_eq 38 102 rfl C dJ8_moveRootToFront_35 rfl (fun u64 => ?_) (fun u64 => ?_)
        · have w := w.1 u64
          refine g_sub [none, some none, none, none, none, none, none] [] rfl rfl ?_
          exact wk_J8_moveRootToFront_b102 C Rr N _ _ w
        · have w := w.2 u64
          refine g_aload_n 39 rfl C dJ8_moveRootToFront_38 rfl ?_
          refine g_iload_n 40 rfl C dJ8_moveRootToFront_39 rfl ?_
          refine g_aload_n 41 rfl C dJ8_moveRootToFront_40 rfl ?_
          obtain ⟨j65, e66, e67, w⟩ := w
          refine g_aastore 51 42 rfl C dJ8_moveRootToFront_41 (by decide) rfl u56 e66 e67 ?_
          have w := w _ rfl
          refine g_aload_n 43 rfl C dJ8_moveRootToFront_42 rfl ?_
          refine g_getR 46 rfl C dJ8_moveRootToFront_43 fl_HashMap_TreeNode_19 rfl u54 rfl ?_
          refine g_astore 48 rfl C dJ8_moveRootToFront_46 (by decide) (rfl : _ = [some (vR [51] _), some (vR [7] _), some (vI _), some (vI _), some (vR [7] _), none, some (vR [7] _)]) ?_
          refine g_aload_n 49 rfl C dJ8_moveRootToFront_48 rfl ?_
          refine g_getR 52 rfl C dJ8_moveRootToFront_49 fl_HashMap_TreeNode_22 rfl u54 rfl ?_
          refine g_dup 53 rfl C dJ8_moveRootToFront_52 rfl ?_
          refine g_astore 55 rfl C dJ8_moveRootToFront_53 (by decide) (rfl : _ = [some (vR [51] _), some (vR [7] _), some (vI _), some (vI _), some (vR [7] _), some (vR [5, 6, 7] _), some (vR [7] _)]) ?_
          refine g_ifnull 58 68 rfl C dJ8_moveRootToFront_55 rfl (fun u69 => ?_) (fun a70 u69 => ?_)
          · have w := w.1 u69
            refine g_sub [none, some none, none, none, some none, some none, some none] [] rfl rfl ?_
            exact wk_J8_moveRootToFront_b68 C Rr N _ _ _ _ _ w
          · have w := w.2 a70 u69
            refine g_aload 60 rfl C dJ8_moveRootToFront_58 rfl ?_
            obtain ⟨k71, w⟩ := w
            refine g_cast [7] 63 rfl C dJ8_moveRootToFront_60 q227 co_HashMap_TreeNode_7 (fun a q _ => k71 a q) ?_
            refine g_aload 65 rfl C dJ8_moveRootToFront_63 rfl ?_
            refine g_putR 68 rfl C dJ8_moveRootToFront_65 fl_HashMap_TreeNode_19 rfl rfl rfl u69 rfl ?_
            have w := w _ rfl
            refine g_sub [none, some none, none, none, some none, some none, some none] [] rfl rfl ?_
            exact wk_J8_moveRootToFront_b68 C Rr N _ _ _ _ _ w
theorem ct_J8_moveRootToFront {E : Gx} (GE : Glob E) {h : Hp} {x0 : Option Nat} {x1 : Option Nat} {K : Hp → Prop} (w : wp_J8_moveRootToFront h x0 x1 K) : Ct E yJ8_moveRootToFront cJ8_moveRootToFront 7 (Option.none : Option Jvm.ClassFile.FieldType) 2 [vR [51] x0, vR [7] x1] h (pV K) :=
  Ct.of GE (by decide +kernel) (by simp [lvA, t2]) rfl (fun X hX C Rr N => wk_J8_moveRootToFront C Rr N h x0 x1 w)
def wp_J8_treeify_b209 (G4 : Hp → Option Nat → Option Nat → Option Nat → Prop) (K : Hp → Prop) (h : Hp) (l1 : Option Nat) (l2 : Option Nat) (l4 : Option Nat) : Prop :=
  (G4 h l1 l2 l4)
set_option maxHeartbeats 4000000 in
theorem wk_J8_treeify_b209 {X : Fx} {K : Hp → Prop} (C : Cx X cJ8_treeify yJ8_treeify.cls 13 4) (Rr : Rx X (Option.none : Option Jvm.ClassFile.FieldType) (pV K)) (N : Nm X yJ8_treeify.name) {G4 : Hp → Option Nat → Option Nat → Option Nat → Prop} (k4 : ∀ (h : Hp) (l1 : Option Nat) (l2 : Option Nat) (l3 : Option Nat), G4 h l1 l2 l3 → Gd X h 4 [none, some (vR [51] l1), some (vR [7] l2), some (vR [7] l3), none, none, none, none, none, none, none, none, none] []) (h : Hp) (l1 : Option Nat) (l2 : Option Nat) (l4 : Option Nat) (w : wp_J8_treeify_b209 G4 K h l1 l2 l4) : Gd X h 209 [none, some (vR [51] l1), some (vR [7] l2), none, some (vR [7] l4), none, none, none, none, none, none, none, none] [] := by
  unfold wp_J8_treeify_b209 at w
  refine g_aload 211 rfl C dJ8_treeify_209 rfl ?_
  refine g_astore_n 212 rfl C dJ8_treeify_211 (by decide) (rfl : _ = [none, some (vR [51] _), some (vR [7] _), some (vR [7] _), some (vR [7] _), none, none, none, none, none, none, none, none]) ?_
  refine g_goto 4 C dJ8_treeify_212 rfl ?_
  refine g_sub [none, some none, some none, some none, none, none, none, none, none, none, none, none, none] [] rfl rfl ?_
  exact k4 _ _ _ _ w
def wp_J8_treeify_b197 (G4 : Hp → Option Nat → Option Nat → Option Nat → Prop) (K : Hp → Prop) (h : Hp) (l1 : Option Nat) (l2 : Option Nat) (l3 : Option Nat) (l4 : Option Nat) : Prop :=
  (wp_J8_balanceInsertion h l2 l3 (fun r130 h131 => Ex h h131 → (wp_J8_treeify_b209 G4 K h131 l1 r130 l4)))
set_option maxHeartbeats 4000000 in
theorem wk_J8_treeify_b197 {X : Fx} {K : Hp → Prop} (C : Cx X cJ8_treeify yJ8_treeify.cls 13 4) (Rr : Rx X (Option.none : Option Jvm.ClassFile.FieldType) (pV K)) (N : Nm X yJ8_treeify.name) {G4 : Hp → Option Nat → Option Nat → Option Nat → Prop} (k4 : ∀ (h : Hp) (l1 : Option Nat) (l2 : Option Nat) (l3 : Option Nat), G4 h l1 l2 l3 → Gd X h 4 [none, some (vR [51] l1), some (vR [7] l2), some (vR [7] l3), none, none, none, none, none, none, none, none, none] []) (h : Hp) (l1 : Option Nat) (l2 : Option Nat) (l3 : Option Nat) (l4 : Option Nat) (w : wp_J8_treeify_b197 G4 K h l1 l2 l3 l4) : Gd X h 197 [none, some (vR [51] l1), some (vR [7] l2), some (vR [7] l3), some (vR [7] l4), none, none, none, none, none, none, none, none] [] := by
  unfold wp_J8_treeify_b197 at w
  refine g_aload_n 198 rfl C dJ8_treeify_197 rfl ?_
  refine g_aload_n 199 rfl C dJ8_treeify_198 rfl ?_
  refine g_callS (As := [vR [7] _, vR [7] _]) (st := []) 202 rfl C dJ8_treeify_199 q355 q356 q21 q357 okn_7b58fd (by decide) (by decide) (Nat.le_of_ble_eq_true rfl) rfl (ct_J8_balanceInsertion C.glob w) (fun r0 h131 p132 x133 _ => ?_)
  obtain ⟨r130, rfl, w⟩ := p132
  have w := w x133
  change Gd _ _ _ _ (vR [7] r130 :: [])
  refine g_astore_n 203 rfl C dJ8_treeify_202 (by decide) (rfl : _ = [none, some (vR [51] _), some (vR [7] _), some (vR [7] _), some (vR [7] _), none, none, none, none, none, none, none, none]) ?_
  refine g_goto 209 C dJ8_treeify_203 rfl ?_
  refine g_sub [none, some none, some none, none, some none, none, none, none, none, none, none, none, none] [] rfl rfl ?_
  exact wk_J8_treeify_b209 C Rr N k4 _ _ _ _ w
def wp_J8_treeify_b165 (G4 : Hp → Option Nat → Option Nat → Option Nat → Prop) (G64 : Hp → Option Nat → Option Nat → Option Nat → Option Nat → Option Nat → Int32 → Option Nat → Option Nat → Prop) (K : Hp → Prop) (h : Hp) (l1 : Option Nat) (l2 : Option Nat) (l3 : Option Nat) (l4 : Option Nat) (l5 : Option Nat) (l6 : Int32) (l7 : Option Nat) (l9 : Int32) (l12 : Option Nat) (s0 : Option Nat) : Prop :=
  ((s0 = none → (∃ a136, l3 = some a136 ∧ (∀ h138, h138 = wR h 6 a136 l12 → ((0 < l9 → (∃ a140, l12 = some a140 ∧ (∀ h142, h142 = wR h138 8 a140 l3 → (wp_J8_treeify_b197 G4 K h142 l1 l2 l3 l4)))) ∧ (¬ 0 < l9 → (∃ a143, l12 = some a143 ∧ (∀ h145, h145 = wR h138 7 a143 l3 → (wp_J8_treeify_b197 G4 K h145 l1 l2 l3 l4)))))))) ∧ (∀ a135, s0 = some a135 → (G64 h l1 l2 l3 l4 l5 l6 l7 s0)))
set_option maxHeartbeats 4000000 in
theorem wk_J8_treeify_b165 {X : Fx} {K : Hp → Prop} (C : Cx X cJ8_treeify yJ8_treeify.cls 13 4) (Rr : Rx X (Option.none : Option Jvm.ClassFile.FieldType) (pV K)) (N : Nm X yJ8_treeify.name) {G4 : Hp → Option Nat → Option Nat → Option Nat → Prop} {G64 : Hp → Option Nat → Option Nat → Option Nat → Option Nat → Option Nat → Int32 → Option Nat → Option Nat → Prop} (k4 : ∀ (h : Hp) (l1 : Option Nat) (l2 : Option Nat) (l3 : Option Nat), G4 h l1 l2 l3 → Gd X h 4 [none, some (vR [51] l1), some (vR [7] l2), some (vR [7] l3), none, none, none, none, none, none, none, none, none] []) (k64 : ∀ (h : Hp) (l1 : Option Nat) (l2 : Option Nat) (l3 : Option Nat) (l4 : Option Nat) (l5 : Option Nat) (l6 : Int32) (l7 : Option Nat) (l8 : Option Nat), G64 h l1 l2 l3 l4 l5 l6 l7 l8 → Gd X h 64 [none, some (vR [51] l1), some (vR [7] l2), some (vR [7] l3), some (vR [7] l4), some (vR [4, 60] l5), some (vI l6), some (vR [] l7), some (vR [7] l8), none, none, none, none] []) (h : Hp) (l1 : Option Nat) (l2 : Option Nat) (l3 : Option Nat) (l4 : Option Nat) (l5 : Option Nat) (l6 : Int32) (l7 : Option Nat) (l9 : Int32) (l12 : Option Nat) (s0 : Option Nat) (w : wp_J8_treeify_b165 G4 G64 K h l1 l2 l3 l4 l5 l6 l7 l9 l12 s0) : Gd X h 165 [none, some (vR [51] l1), some (vR [7] l2), some (vR [7] l3), some (vR [7] l4), some (vR [4, 60] l5), some (vI l6), some (vR [] l7), none, some (vI l9), none, none, some (vR [7] l12)] [vR [7] s0] := by
  unfold wp_J8_treeify_b165 at w
  refine g_dup 166 rfl C dJ8_treeify_165 rfl ?_
  refine g_astore 168 rfl C dJ8_treeify_166 (by decide) (rfl : _ = [none, some (vR [51] _), some (vR [7] _), some (vR [7] _), some (vR [7] _), some (vR [4, 60] _), some (vI _), some (vR [] _), some (vR [7] _), some (vI _), none, none, some (vR [7] _)]) ?_
  refine g_ifnonnull 171 206 rfl C dJ8_treeify_168 rfl (fun a135 u134 => ?_) (fun u134 => ?_)
  · have w := w.2 a135 u134
    refine g_goto 64 C dJ8_treeify_206 rfl ?_
    refine g_sub [none, some none, some none, some none, some none, some none, some none, some none, some none, none, none, none, none] [] rfl rfl ?_
    exact k64 _ _ _ _ _ _ _ _ _ w
  · have w := w.1 u134
    refine g_aload_n 172 rfl C dJ8_treeify_171 rfl ?_
    refine g_aload 174 rfl C dJ8_treeify_172 rfl ?_
    obtain ⟨a136, e137, w⟩ := w
    refine g_putR 177 rfl C dJ8_treeify_174 fl_HashMap_TreeNode_9 rfl rfl rfl e137 rfl ?_
    have w := w _ rfl
    refine g_iload 179 rfl C dJ8_treeify_177 rfl ?_
    refine g_if_gt 182 191 rfl C dJ8_treeify_179 rfl (fun u139 => ?_) (fun u139 => ?_)
    · have w := w.1 u139
      refine g_aload 193 rfl C dJ8_treeify_191 rfl ?_
      refine g_aload_n 194 rfl C dJ8_treeify_193 rfl ?_
      obtain ⟨a140, e141, w⟩ := w
      refine g_putR 197 rfl C dJ8_treeify_194 fl_HashMap_TreeNode_42 rfl rfl rfl e141 rfl ?_
      have w := w _ rfl
      refine g_sub [none, some none, some none, some none, some none, none, none, none, none, none, none, none, none] [] rfl rfl ?_
      exact wk_J8_treeify_b197 C Rr N k4 _ _ _ _ _ w
    · have w := w.2 u139
      refine g_aload 184 rfl C dJ8_treeify_182 rfl ?_
      refine g_aload_n 185 rfl C dJ8_treeify_184 rfl ?_
      obtain ⟨a143, e144, w⟩ := w
      refine g_putR 188 rfl C dJ8_treeify_185 fl_HashMap_TreeNode_39 rfl rfl rfl e144 rfl ?_
      have w := w _ rfl
      refine g_goto 197 C dJ8_treeify_188 rfl ?_
      refine g_sub [none, some none, some none, some none, some none, none, none, none, none, none, none, none, none] [] rfl rfl ?_
      exact wk_J8_treeify_b197 C Rr N k4 _ _ _ _ _ w
def wp_J8_treeify_b143 (G4 : Hp → Option Nat → Option Nat → Option Nat → Prop) (G64 : Hp → Option Nat → Option Nat → Option Nat → Option Nat → Option Nat → Int32 → Option Nat → Option Nat → Prop) (K : Hp → Prop) (h : Hp) (l1 : Option Nat) (l2 : Option Nat) (l3 : Option Nat) (l4 : Option Nat) (l5 : Option Nat) (l6 : Int32) (l7 : Option Nat) (l8 : Option Nat) (l9 : Int32) : Prop :=
  ((0 < l9 → (∃ a147, l8 = some a147 ∧ (wp_J8_treeify_b165 G4 G64 K h l1 l2 l3 l4 l5 l6 l7 l9 l8 (rf h 8 a147)))) ∧ (¬ 0 < l9 → (∃ a149, l8 = some a149 ∧ (wp_J8_treeify_b165 G4 G64 K h l1 l2 l3 l4 l5 l6 l7 l9 l8 (rf h 7 a149)))))
set_option maxHeartbeats 4000000 in
theorem wk_J8_treeify_b143 {X : Fx} {K : Hp → Prop} (C : Cx X cJ8_treeify yJ8_treeify.cls 13 4) (Rr : Rx X (Option.none : Option Jvm.ClassFile.FieldType) (pV K)) (N : Nm X yJ8_treeify.name) {G4 : Hp → Option Nat → Option Nat → Option Nat → Prop} {G64 : Hp → Option Nat → Option Nat → Option Nat → Option Nat → Option Nat → Int32 → Option Nat → Option Nat → Prop} (k4 : ∀ (h : Hp) (l1 : Option Nat) (l2 : Option Nat) (l3 : Option Nat), G4 h l1 l2 l3 → Gd X h 4 [none, some (vR [51] l1), some (vR [7] l2), some (vR [7] l3), none, none, none, none, none, none, none, none, none] []) (k64 : ∀ (h : Hp) (l1 : Option Nat) (l2 : Option Nat) (l3 : Option Nat) (l4 : Option Nat) (l5 : Option Nat) (l6 : Int32) (l7 : Option Nat) (l8 : Option Nat), G64 h l1 l2 l3 l4 l5 l6 l7 l8 → Gd X h 64 [none, some (vR [51] l1), some (vR [7] l2), some (vR [7] l3), some (vR [7] l4), some (vR [4, 60] l5), some (vI l6), some (vR [] l7), some (vR [7] l8), none, none, none, none] []) (h : Hp) (l1 : Option Nat) (l2 : Option Nat) (l3 : Option Nat) (l4 : Option Nat) (l5 : Option Nat) (l6 : Int32) (l7 : Option Nat) (l8 : Option Nat) (l9 : Int32) (w : wp_J8_treeify_b143 G4 G64 K h l1 l2 l3 l4 l5 l6 l7 l8 l9) : Gd X h 143 [none, some (vR [51] l1), some (vR [7] l2), some (vR [7] l3), some (vR [7] l4), some (vR [4, 60] l5), some (vI l6), some (vR [] l7), some (vR [7] l8), some (vI l9), none, none, none] [] := by
  unfold wp_J8_treeify_b143 at w
  refine g_aload 145 rfl C dJ8_treeify_143 rfl ?_
  refine g_astore 147 rfl C dJ8_treeify_145 (by decide) (rfl : _ = [none, some (vR [51] _), some (vR [7] _), some (vR [7] _), some (vR [7] _), some (vR [4, 60] _), some (vI _), some (vR [] _), some (vR [7] _), some (vI _), none, none, some (vR [7] _)]) ?_
  refine g_iload 149 rfl C dJ8_treeify_147 rfl ?_
  refine g_if_gt 152 160 rfl C dJ8_treeify_149 rfl (fun u146 => ?_) (fun u146 => ?_)
  · have w := w.1 u146
    refine g_aload 162 rfl C dJ8_treeify_160 rfl ?_
    obtain ⟨a147, e148, w⟩ := w
    refine g_getR 165 rfl C dJ8_treeify_162 fl_HashMap_TreeNode_42 rfl e148 rfl ?_
    refine g_sub [none, some none, some none, some none, some none, some none, some none, some none, none, some none, none, none, some none] [none] rfl rfl ?_
    exact wk_J8_treeify_b165 C Rr N k4 k64 _ _ _ _ _ _ _ _ _ _ _ w
  · have w := w.2 u146
    refine g_aload 154 rfl C dJ8_treeify_152 rfl ?_
    obtain ⟨a149, e150, w⟩ := w
    refine g_getR 157 rfl C dJ8_treeify_154 fl_HashMap_TreeNode_39 rfl e150 rfl ?_
    refine g_goto 165 C dJ8_treeify_157 rfl ?_
    refine g_sub [none, some none, some none, some none, some none, some none, some none, some none, none, some none, none, none, some none] [none] rfl rfl ?_
    exact wk_J8_treeify_b165 C Rr N k4 k64 _ _ _ _ _ _ _ _ _ _ _ w
def wp_J8_treeify_b64 (G4 : Hp → Option Nat → Option Nat → Option Nat → Prop) (K : Hp → Prop) : Nat → Hp → Option Nat → Option Nat → Option Nat → Option Nat → Option Nat → Int32 → Option Nat → Option Nat → Prop
  | 0 => fun _ _ _ _ _ _ _ _ _ => False
  | m9 + 1 => fun h l1 l2 l3 l4 l5 l6 l7 l8 =>
    (∃ a109, l8 = some a109 ∧ (((it h 0 a109) ≤ l6 → ((l6 ≤ (it h 0 a109) → ((l7 = none → False) ∧ (∀ a114, l7 = some a114 → False))) ∧ (¬ l6 ≤ (it h 0 a109) → (wp_J8_treeify_b143 G4 (wp_J8_treeify_b64 G4 K m9) K h l1 l2 l3 l4 l5 l6 l7 l8 1)))) ∧ (¬ (it h 0 a109) ≤ l6 → (wp_J8_treeify_b143 G4 (wp_J8_treeify_b64 G4 K m9) K h l1 l2 l3 l4 l5 l6 l7 l8 (-1)))))
set_option maxHeartbeats 4000000 in
theorem wk_J8_treeify_b64 {X : Fx} {K : Hp → Prop} (C : Cx X cJ8_treeify yJ8_treeify.cls 13 4) (Rr : Rx X (Option.none : Option Jvm.ClassFile.FieldType) (pV K)) (N : Nm X yJ8_treeify.name) {G4 : Hp → Option Nat → Option Nat → Option Nat → Prop} (k4 : ∀ (h : Hp) (l1 : Option Nat) (l2 : Option Nat) (l3 : Option Nat), G4 h l1 l2 l3 → Gd X h 4 [none, some (vR [51] l1), some (vR [7] l2), some (vR [7] l3), none, none, none, none, none, none, none, none, none] []) : ∀ (n : Nat) (h : Hp) (l1 : Option Nat) (l2 : Option Nat) (l3 : Option Nat) (l4 : Option Nat) (l5 : Option Nat) (l6 : Int32) (l7 : Option Nat) (l8 : Option Nat), wp_J8_treeify_b64 G4 K n h l1 l2 l3 l4 l5 l6 l7 l8 → Gd X h 64 [none, some (vR [51] l1), some (vR [7] l2), some (vR [7] l3), some (vR [7] l4), some (vR [4, 60] l5), some (vI l6), some (vR [] l7), some (vR [7] l8), none, none, none, none] [] := by
  intro n
  induction n with
  | zero => intro h l1 l2 l3 l4 l5 l6 l7 l8 w; exact w.elim
  | succ n ih =>
    intro h l1 l2 l3 l4 l5 l6 l7 l8 w
    unfold wp_J8_treeify_b64 at w
    refine g_aload 66 rfl C dJ8_treeify_64 rfl ?_
    obtain ⟨a109, e110, w⟩ := w
    refine g_getR 69 rfl C dJ8_treeify_66 fl_HashMap_TreeNode_45 rfl e110 rfl ?_
    refine g_astore 71 rfl C dJ8_treeify_69 (by decide) (rfl : _ = [none, some (vR [51] _), some (vR [7] _), some (vR [7] _), some (vR [7] _), some (vR [4, 60] _), some (vI _), some (vR [] _), some (vR [7] _), none, none, some (vR [4, 60] _), none]) ?_
    refine g_aload 73 rfl C dJ8_treeify_71 rfl ?_
    refine g_getI 76 rfl C dJ8_treeify_73 fl_HashMap_TreeNode_15 rfl e110 rfl ?_
    refine g_dup 77 rfl C dJ8_treeify_76 rfl ?_
    refine g_istore 79 rfl C dJ8_treeify_77 (by decide) (rfl : _ = [none, some (vR [51] _), some (vR [7] _), some (vR [7] _), some (vR [7] _), some (vR [4, 60] _), some (vI _), some (vR [] _), some (vR [7] _), none, some (vI _), some (vR [4, 60] _), none]) ?_
    refine g_iload 81 rfl C dJ8_treeify_79 rfl ?_
    refine g_icmp_le 84 90 rfl C dJ8_treeify_81 rfl (fun u111 => ?_) (fun u111 => ?_)
    · have w := w.1 u111
      refine g_iload 92 rfl C dJ8_treeify_90 rfl ?_
      refine g_iload 94 rfl C dJ8_treeify_92 rfl ?_
      refine g_icmp_ge 97 103 rfl C dJ8_treeify_94 rfl (fun u112 => ?_) (fun u112 => ?_)
      · have w := w.1 u112
        refine g_aload 105 rfl C dJ8_treeify_103 rfl ?_
        refine g_ifnonnull 108 119 rfl C dJ8_treeify_105 rfl (fun a114 u113 => ?_) (fun u113 => ?_)
        · have w := w.2 a114 u113
          refine g_aload 121 rfl C dJ8_treeify_119 rfl ?_
          refine g_aload 123 rfl C dJ8_treeify_121 rfl ?_
          refine g_aload 125 rfl C dJ8_treeify_123 rfl ?_
          exact w.elim
        · have w := w.1 u113
          refine g_aload 110 rfl C dJ8_treeify_108 rfl ?_
          exact w.elim
      · have w := w.2 u112
        refine g_iconst 98 rfl C dJ8_treeify_97 1 rfl ?_
        refine g_istore 100 rfl C dJ8_treeify_98 (by decide) (rfl : _ = [none, some (vR [51] _), some (vR [7] _), some (vR [7] _), some (vR [7] _), some (vR [4, 60] _), some (vI _), some (vR [] _), some (vR [7] _), some (vI _), some (vI _), some (vR [4, 60] _), none]) ?_
        refine g_goto 143 C dJ8_treeify_100 rfl ?_
        refine g_sub [none, some none, some none, some none, some none, some none, some none, some none, some none, some none, none, none, none] [] rfl rfl ?_
        exact wk_J8_treeify_b143 C Rr N k4 ih _ _ _ _ _ _ _ _ _ _ w
    · have w := w.2 u111
      refine g_iconst 85 rfl C dJ8_treeify_84 (-1) rfl ?_
      refine g_istore 87 rfl C dJ8_treeify_85 (by decide) (rfl : _ = [none, some (vR [51] _), some (vR [7] _), some (vR [7] _), some (vR [7] _), some (vR [4, 60] _), some (vI _), some (vR [] _), some (vR [7] _), some (vI _), some (vI _), some (vR [4, 60] _), none]) ?_
      refine g_goto 143 C dJ8_treeify_87 rfl ?_
      refine g_sub [none, some none, some none, some none, some none, some none, some none, some none, some none, some none, none, none, none] [] rfl rfl ?_
      exact wk_J8_treeify_b143 C Rr N k4 ih _ _ _ _ _ _ _ _ _ _ w
def wp_J8_treeify_b4 (K : Hp → Prop) : Nat → Hp → Option Nat → Option Nat → Option Nat → Prop
  | 0 => fun _ _ _ _ => False
  | m9 + 1 => fun h l1 l2 l3 =>
    ((l3 = none → (wp_J8_moveRootToFront h l1 l2 (fun h119 => Ex h h119 → (K h119)))) ∧ (∀ a116, l3 = some a116 → ((∀ a, (rf h 3 a116) = some a → kd h a ∈ [7]) ∧ (∀ h123, h123 = wR h 8 a116 none → (∀ h124, h124 = wR h123 7 a116 none → ((l2 = none → (∀ h127, h127 = wR h124 6 a116 none → (∀ h128, h128 = wI h127 10 a116 0 → (wp_J8_treeify_b209 (wp_J8_treeify_b4 K m9) K h128 l1 l3 (rf h 3 a116))))) ∧ (∀ a126, l2 = some a126 → (∃ n, wp_J8_treeify_b64 (wp_J8_treeify_b4 K m9) K n h124 l1 l2 l3 (rf h 3 a116) (rf h124 1 a116) (it h124 0 a116) none l2))))))))
set_option maxHeartbeats 4000000 in
theorem wk_J8_treeify_b4 {X : Fx} {K : Hp → Prop} (C : Cx X cJ8_treeify yJ8_treeify.cls 13 4) (Rr : Rx X (Option.none : Option Jvm.ClassFile.FieldType) (pV K)) (N : Nm X yJ8_treeify.name) : ∀ (n : Nat) (h : Hp) (l1 : Option Nat) (l2 : Option Nat) (l3 : Option Nat), wp_J8_treeify_b4 K n h l1 l2 l3 → Gd X h 4 [none, some (vR [51] l1), some (vR [7] l2), some (vR [7] l3), none, none, none, none, none, none, none, none, none] [] := by
  intro n
  induction n with
  | zero => intro h l1 l2 l3 w; exact w.elim
  | succ n ih =>
    intro h l1 l2 l3 w
    unfold wp_J8_treeify_b4 at w
    refine g_aload_n 5 rfl C dJ8_treeify_4 rfl ?_
    refine g_ifnull 8 215 rfl C dJ8_treeify_5 rfl (fun u115 => ?_) (fun a116 u115 => ?_)
    · have w := w.1 u115
      refine g_aload_n 216 rfl C dJ8_treeify_215 rfl ?_
      refine g_aload_n 217 rfl C dJ8_treeify_216 rfl ?_
      refine g_callS (As := [vR [51] _, vR [7] _]) (st := []) 220 rfl C dJ8_treeify_217 q364 q365 q21 q366 okn_ba9dfb (by decide) (by decide) (Nat.le_of_ble_eq_true rfl) rfl (ct_J8_moveRootToFront C.glob w) (fun r0 h119 p120 x121 _ => ?_)
      obtain ⟨rfl, w⟩ := p120
      have w := w x121
      change Gd _ _ _ _ []
      exact g_vreturn C Rr dJ8_treeify_220 ⟨rfl, w⟩
    · have w := w.2 a116 u115
      refine g_aload_n 9 rfl C dJ8_treeify_8 rfl ?_
      refine g_getR 12 rfl C dJ8_treeify_9 fl_HashMap_TreeNode_22 rfl u115 rfl ?_
      obtain ⟨k122, w⟩ := w
      refine g_cast [7] 15 rfl C dJ8_treeify_12 q227 co_HashMap_TreeNode_7 (fun a q _ => k122 a q) ?_
      refine g_astore 17 rfl C dJ8_treeify_15 (by decide) (rfl : _ = [none, some (vR [51] _), some (vR [7] _), some (vR [7] _), some (vR [7] _), none, none, none, none, none, none, none, none]) ?_
      refine g_aload_n 18 rfl C dJ8_treeify_17 rfl ?_
      refine g_aload_n 19 rfl C dJ8_treeify_18 rfl ?_
      refine g_null 20 rfl C dJ8_treeify_19 ?_
      refine g_dup_x1 21 rfl C dJ8_treeify_20 rfl rfl ?_
      refine g_putR 24 rfl C dJ8_treeify_21 fl_HashMap_TreeNode_42 rfl rfl rfl u115 rfl ?_
      have w := w _ rfl
      refine g_putR 27 rfl C dJ8_treeify_24 fl_HashMap_TreeNode_39 rfl rfl rfl u115 rfl ?_
      have w := w _ rfl
      refine g_aload_n 28 rfl C dJ8_treeify_27 rfl ?_
      refine g_ifnonnull 31 46 rfl C dJ8_treeify_28 rfl (fun a126 u125 => ?_) (fun u125 => ?_)
      · have w := w.2 a126 u125
        refine g_aload_n 47 rfl C dJ8_treeify_46 rfl ?_
        refine g_getR 50 rfl C dJ8_treeify_47 fl_HashMap_TreeNode_45 rfl u115 rfl ?_
        refine g_astore 52 rfl C dJ8_treeify_50 (by decide) (rfl : _ = [none, some (vR [51] _), some (vR [7] _), some (vR [7] _), some (vR [7] _), some (vR [4, 60] _), none, none, none, none, none, none, none]) ?_
        refine g_aload_n 53 rfl C dJ8_treeify_52 rfl ?_
        refine g_getI 56 rfl C dJ8_treeify_53 fl_HashMap_TreeNode_15 rfl u115 rfl ?_
        refine g_istore 58 rfl C dJ8_treeify_56 (by decide) (rfl : _ = [none, some (vR [51] _), some (vR [7] _), some (vR [7] _), some (vR [7] _), some (vR [4, 60] _), some (vI _), none, none, none, none, none, none]) ?_
        refine g_null 59 rfl C dJ8_treeify_58 ?_
        refine g_astore 61 rfl C dJ8_treeify_59 (by decide) (rfl : _ = [none, some (vR [51] _), some (vR [7] _), some (vR [7] _), some (vR [7] _), some (vR [4, 60] _), some (vI _), some (vR [] _), none, none, none, none, none]) ?_
        refine g_aload_n 62 rfl C dJ8_treeify_61 rfl ?_
        refine g_astore 64 rfl C dJ8_treeify_62 (by decide) (rfl : _ = [none, some (vR [51] _), some (vR [7] _), some (vR [7] _), some (vR [7] _), some (vR [4, 60] _), some (vI _), some (vR [] _), some (vR [7] _), none, none, none, none]) ?_
        refine g_sub [none, some none, some none, some none, some none, some none, some none, some none, some none, none, none, none, none] [] rfl rfl ?_
        obtain ⟨n9, w⟩ := w
        exact wk_J8_treeify_b64 C Rr N ih n9 _ _ _ _ _ _ _ _ _ w
      · have w := w.1 u125
        refine g_aload_n 32 rfl C dJ8_treeify_31 rfl ?_
        refine g_null 33 rfl C dJ8_treeify_32 ?_
        refine g_putR 36 rfl C dJ8_treeify_33 fl_HashMap_TreeNode_9 rfl rfl rfl u115 rfl ?_
        have w := w _ rfl
        refine g_aload_n 37 rfl C dJ8_treeify_36 rfl ?_
        refine g_iconst 38 rfl C dJ8_treeify_37 0 rfl ?_
        refine g_putZ 41 rfl C dJ8_treeify_38 fl_HashMap_TreeNode_93 rfl rfl (Or.inl rfl) u115 rfl ?_
        have w := w _ rfl
        refine g_aload_n 42 rfl C dJ8_treeify_41 rfl ?_
        refine g_astore_n 43 rfl C dJ8_treeify_42 (by decide) (rfl : _ = [none, some (vR [51] _), some (vR [7] _), some (vR [7] _), some (vR [7] _), none, none, none, none, none, none, none, none]) ?_
        refine g_goto 209 C dJ8_treeify_43 rfl ?_
        refine g_sub [none, some none, some none, none, some none, none, none, none, none, none, none, none, none] [] rfl rfl ?_
        exact wk_J8_treeify_b209 C Rr N ih _ _ _ _ w
def wp_J8_treeify (h : Hp) (x0 : Option Nat) (x1 : Option Nat) (K : Hp → Prop) : Prop :=
  (∃ n, wp_J8_treeify_b4 K n h x1 none x0)
set_option maxHeartbeats 4000000 in
theorem wk_J8_treeify {X : Fx} {K : Hp → Prop} (C : Cx X cJ8_treeify yJ8_treeify.cls 13 4) (Rr : Rx X (Option.none : Option Jvm.ClassFile.FieldType) (pV K)) (N : Nm X yJ8_treeify.name) (h : Hp) (x0 : Option Nat) (x1 : Option Nat) (w : wp_J8_treeify h x0 x1 K) : Gd X h 0 [some (vR [7] x0), some (vR [51] x1), none, none, none, none, none, none, none, none, none, none, none] [] := by
  unfold wp_J8_treeify at w
  refine g_null 1 rfl C dJ8_treeify_0 ?_
  refine g_astore_n 2 rfl C dJ8_treeify_1 (by decide) (rfl : _ = [some (vR [7] _), some (vR [51] _), some (vR [] _), none, none, none, none, none, none, none, none, none, none]) ?_
  refine g_aload_n 3 rfl C dJ8_treeify_2 rfl ?_
  refine g_astore_n 4 rfl C dJ8_treeify_3 (by decide) (rfl : _ = [some (vR [7] _), some (vR [51] _), some (vR [] _), some (vR [7] _), none, none, none, none, none, none, none, none, none]) ?_
  refine g_sub [none, some none, some (some [7]), some none, none, none, none, none, none, none, none, none, none] [] rfl rfl ?_
  obtain ⟨n9, w⟩ := w
  exact wk_J8_treeify_b4 C Rr N n9 _ _ _ _ w
theorem ct_J8_treeify {E : Gx} (GE : Glob E) {h : Hp} {x0 : Option Nat} {x1 : Option Nat} {K : Hp → Prop} (w : wp_J8_treeify h x0 x1 K) : Ct E yJ8_treeify cJ8_treeify 13 (Option.none : Option Jvm.ClassFile.FieldType) 4 [vR [7] x0, vR [51] x1] h (pV K) :=
  Ct.of GE (by decide +kernel) (by simp [lvA, t2]) rfl (fun X hX C Rr N => wk_J8_treeify C Rr N h x0 x1 w)
