/-! WALKS (printed by emit.py): J0_init J5_hashCode_2 J5_hashCode J1_hash J5_intValue J5_equals J8_root J8_find J8_getTreeNode J1_getNode J1_get J1_containsKey J1_size J11_init J12_init J22_init J1_entrySet J15_init J17_init J13_iterator J15_hasNext J15_nextNode J16_next_2 J16_next J17_next J18_hasNext J18_nextNode J19_next_2 J19_next J2_afterNodeAccess J2_get J23_init J2_sequencedEntrySet J2_entrySet J16_init J22_iterator -/
set_option maxRecDepth 100000
def wp_J0_init (h : Hp) (x0 : Option Nat) (K : Hp → Prop) : Prop :=
  (∃ a3, x0 = some a3 ∧ (K h))
set_option maxHeartbeats 4000000 in
theorem wk_J0_init {X : Fx} {K : Hp → Prop} (C : Cx X cJ0_init yJ0_init.cls 1 2) (Rr : Rx X (Option.none : Option Jvm.ClassFile.FieldType) (pV K)) (N : Nm X yJ0_init.name) (h : Hp) (x0 : Option Nat) (w : wp_J0_init h x0 K) : Gd X h 0 [some (vR [2, 3] x0)] [] := by
  unfold wp_J0_init at w
  refine g_aload_n 1 rfl C dJ0_init_0 rfl ?_
  obtain ⟨a3, e4, w⟩ := w
  refine g_objInit 4 rfl C dJ0_init_1 q55 q45 q46 (by decide) (Nat.le_of_ble_eq_true rfl) e4 ?_
  exact g_vreturn C Rr dJ0_init_4 ⟨rfl, w⟩
theorem ct_J0_init {E : Gx} (GE : Glob E) {h : Hp} {x0 : Option Nat} {K : Hp → Prop} (w : wp_J0_init h x0 K) : Ct E yJ0_init cJ0_init 1 (Option.none : Option Jvm.ClassFile.FieldType) 2 [vR [2, 3] x0] h (pV K) :=
  Ct.of GE (by decide +kernel) (by simp [lvA, t2]) rfl (fun X hX C Rr N => wk_J0_init C Rr N h x0 w)
def wp_J5_hashCode_2 (h : Hp) (x0 : Int32) (K : Int32 → Hp → Prop) : Prop :=
  (K x0 h)
set_option maxHeartbeats 4000000 in
theorem wk_J5_hashCode_2 {X : Fx} {K : Int32 → Hp → Prop} (C : Cx X cJ5_hashCode_2 yJ5_hashCode_2.cls 1 2) (Rr : Rx X (Option.some Jvm.ClassFile.FieldType.int) (pI K)) (N : Nm X yJ5_hashCode_2.name) (h : Hp) (x0 : Int32) (w : wp_J5_hashCode_2 h x0 K) : Gd X h 0 [some (vI x0)] [] := by
  unfold wp_J5_hashCode_2 at w
  refine g_iload_n 1 rfl C dJ5_hashCode_2_0 rfl ?_
  exact g_ireturn C Rr dJ5_hashCode_2_1 ⟨_, rfl, w⟩
theorem ct_J5_hashCode_2 {E : Gx} (GE : Glob E) {h : Hp} {x0 : Int32} {K : Int32 → Hp → Prop} (w : wp_J5_hashCode_2 h x0 K) : Ct E yJ5_hashCode_2 cJ5_hashCode_2 1 (Option.some Jvm.ClassFile.FieldType.int) 2 [vI x0] h (pI K) :=
  Ct.of GE (by decide +kernel) (by simp [lvA, t2]) rfl (fun X hX C Rr N => wk_J5_hashCode_2 C Rr N h x0 w)
def wp_J5_hashCode (h : Hp) (x0 : Option Nat) (K : Int32 → Hp → Prop) : Prop :=
  (∃ a8, x0 = some a8 ∧ (wp_J5_hashCode_2 h (it h 23 a8) (fun r11 h12 => Ex h h12 → (K r11 h12))))
set_option maxHeartbeats 4000000 in
theorem wk_J5_hashCode {X : Fx} {K : Int32 → Hp → Prop} (C : Cx X cJ5_hashCode yJ5_hashCode.cls 1 3) (Rr : Rx X (Option.some Jvm.ClassFile.FieldType.int) (pI K)) (N : Nm X yJ5_hashCode.name) (h : Hp) (x0 : Option Nat) (w : wp_J5_hashCode h x0 K) : Gd X h 0 [some (vR [4, 60] x0)] [] := by
  unfold wp_J5_hashCode at w
  refine g_aload_n 1 rfl C dJ5_hashCode_0 rfl ?_
  obtain ⟨a8, e9, w⟩ := w
  refine g_getI 4 rfl C dJ5_hashCode_1 fl_Integer_205 rfl e9 rfl ?_
  refine g_callS (As := [vI _]) (st := []) 7 rfl C dJ5_hashCode_4 q202 q203 q15 q204 okn_08c77c (by decide) (by decide) (Nat.le_of_ble_eq_true rfl) rfl (ct_J5_hashCode_2 C.glob w) (fun r0 h12 p13 x14 _ => ?_)
  obtain ⟨r11, rfl, w⟩ := p13
  have w := w x14
  change Gd _ _ _ _ (vI r11 :: [])
  exact g_ireturn C Rr dJ5_hashCode_7 ⟨_, rfl, w⟩
theorem ct_J5_hashCode {E : Gx} (GE : Glob E) {h : Hp} {x0 : Option Nat} {K : Int32 → Hp → Prop} (w : wp_J5_hashCode h x0 K) : Ct E yJ5_hashCode cJ5_hashCode 1 (Option.some Jvm.ClassFile.FieldType.int) 3 [vR [4, 60] x0] h (pI K) :=
  Ct.of GE (by decide +kernel) (by simp [lvA, t2]) rfl (fun X hX C Rr N => wk_J5_hashCode C Rr N h x0 w)
def wp_J1_hash_b19 (K : Int32 → Hp → Prop) (h : Hp) (s0 : Int32) : Prop :=
  (K s0 h)
set_option maxHeartbeats 4000000 in
theorem wk_J1_hash_b19 {X : Fx} {K : Int32 → Hp → Prop} (C : Cx X cJ1_hash yJ1_hash.cls 2 4) (Rr : Rx X (Option.some Jvm.ClassFile.FieldType.int) (pI K)) (N : Nm X yJ1_hash.name) (h : Hp) (s0 : Int32) (w : wp_J1_hash_b19 K h s0) : Gd X h 19 [none, none] [vI s0] := by
  unfold wp_J1_hash_b19 at w
  exact g_ireturn C Rr dJ1_hash_19 ⟨_, rfl, w⟩
def wp_J1_hash (h : Hp) (x0 : Option Nat) (K : Int32 → Hp → Prop) : Prop :=
  ((x0 = none → (wp_J1_hash_b19 K h 0)) ∧ (∀ a11, x0 = some a11 → (wp_J5_hashCode h x0 (fun r13 h14 => Ex h h14 → (wp_J1_hash_b19 K h14 (r13 ^^^ ((r13 : Int32).toUInt32 >>> ((16 : Int32).toUInt32 &&& Int32.toUInt32 31)).toInt32))))))
set_option maxHeartbeats 4000000 in
theorem wk_J1_hash {X : Fx} {K : Int32 → Hp → Prop} (C : Cx X cJ1_hash yJ1_hash.cls 2 4) (Rr : Rx X (Option.some Jvm.ClassFile.FieldType.int) (pI K)) (N : Nm X yJ1_hash.name) (h : Hp) (x0 : Option Nat) (w : wp_J1_hash h x0 K) : Gd X h 0 [some (vR [4, 60] x0), none] [] := by
  unfold wp_J1_hash at w
  refine g_aload_n 1 rfl C dJ1_hash_0 rfl ?_
  refine g_ifnonnull 4 8 rfl C dJ1_hash_1 rfl (fun a11 u10 => ?_) (fun u10 => ?_)
  · have w := w.2 a11 u10
    refine g_aload_n 9 rfl C dJ1_hash_8 rfl ?_
    refine g_callU (As := []) (T := [4, 60]) (st := []) "java/lang/Integer" 12 rfl C dJ1_hash_9 q193 q195 dcl_93c430 q199 q200 q15 q201 okn_1d1bad (by decide) (by decide) (Nat.le_of_ble_eq_true rfl) u10 (fun q => tC rfl q) rfl (ct_J5_hashCode C.glob w) (fun r0 h14 p15 x16 _ => ?_)
    obtain ⟨r13, rfl, w⟩ := p15
    have w := w x16
    change Gd _ _ _ _ (vI r13 :: [])
    refine g_dup 13 rfl C dJ1_hash_12 rfl ?_
    refine g_istore_n 14 rfl C dJ1_hash_13 (by decide) (rfl : _ = [some (vR [4, 60] _), some (vI _)]) ?_
    refine g_iload_n 15 rfl C dJ1_hash_14 rfl ?_
    refine g_bipush 17 rfl C dJ1_hash_15 16 (by decide) ?_
    refine g_iushr 18 rfl C dJ1_hash_17 ?_
    refine g_ixor 19 rfl C dJ1_hash_18 ?_
    refine g_sub [none, none] [none] rfl rfl ?_
    exact wk_J1_hash_b19 C Rr N _ _ w
  · have w := w.1 u10
    refine g_iconst 5 rfl C dJ1_hash_4 0 rfl ?_
    refine g_goto 19 C dJ1_hash_5 rfl ?_
    refine g_sub [none, none] [none] rfl rfl ?_
    exact wk_J1_hash_b19 C Rr N _ _ w
theorem ct_J1_hash {E : Gx} (GE : Glob E) {h : Hp} {x0 : Option Nat} {K : Int32 → Hp → Prop} (w : wp_J1_hash h x0 K) : Ct E yJ1_hash cJ1_hash 2 (Option.some Jvm.ClassFile.FieldType.int) 4 [vR [4, 60] x0] h (pI K) :=
  Ct.of GE (by decide +kernel) (by simp [lvA, t2]) rfl (fun X hX C Rr N => wk_J1_hash C Rr N h x0 w)
def wp_J5_intValue (h : Hp) (x0 : Option Nat) (K : Int32 → Hp → Prop) : Prop :=
  (∃ a3, x0 = some a3 ∧ (K (it h 23 a3) h))
set_option maxHeartbeats 4000000 in
theorem wk_J5_intValue {X : Fx} {K : Int32 → Hp → Prop} (C : Cx X cJ5_intValue yJ5_intValue.cls 1 2) (Rr : Rx X (Option.some Jvm.ClassFile.FieldType.int) (pI K)) (N : Nm X yJ5_intValue.name) (h : Hp) (x0 : Option Nat) (w : wp_J5_intValue h x0 K) : Gd X h 0 [some (vR [4, 60] x0)] [] := by
  unfold wp_J5_intValue at w
  refine g_aload_n 1 rfl C dJ5_intValue_0 rfl ?_
  obtain ⟨a3, e4, w⟩ := w
  refine g_getI 4 rfl C dJ5_intValue_1 fl_Integer_205 rfl e4 rfl ?_
  exact g_ireturn C Rr dJ5_intValue_4 ⟨_, rfl, w⟩
theorem ct_J5_intValue {E : Gx} (GE : Glob E) {h : Hp} {x0 : Option Nat} {K : Int32 → Hp → Prop} (w : wp_J5_intValue h x0 K) : Ct E yJ5_intValue cJ5_intValue 1 (Option.some Jvm.ClassFile.FieldType.int) 2 [vR [4, 60] x0] h (pI K) :=
  Ct.of GE (by decide +kernel) (by simp [lvA, t2]) rfl (fun X hX C Rr N => wk_J5_intValue C Rr N h x0 w)
def wp_J5_equals_b26 (K : Int32 → Hp → Prop) (h : Hp) (s0 : Int32) : Prop :=
  ((s0 = 0 ∨ s0 = 1) ∧ K s0 h)
set_option maxHeartbeats 4000000 in
theorem wk_J5_equals_b26 {X : Fx} {K : Int32 → Hp → Prop} (C : Cx X cJ5_equals yJ5_equals.cls 2 3) (Rr : Rx X (Option.some Jvm.ClassFile.FieldType.boolean) (pI K)) (N : Nm X yJ5_equals.name) (h : Hp) (s0 : Int32) (w : wp_J5_equals_b26 K h s0) : Gd X h 26 [none, none] [vI s0] := by
  unfold wp_J5_equals_b26 at w
  exact g_zreturn C Rr dJ5_equals_26 w.1 ⟨_, rfl, w.2⟩
def wp_J5_equals (h : Hp) (x0 : Option Nat) (x1 : Option Nat) (K : Int32 → Hp → Prop) : Prop :=
  ((∀ a15, x1 = some a15 → kd h a15 ∈ [4, 60] → (∃ a18, x0 = some a18 ∧ (wp_J5_intValue h x1 (fun r21 h22 => Ex h h22 → ((¬ (it h 23 a18) = r21 → (wp_J5_equals_b26 K h22 0)) ∧ ((it h 23 a18) = r21 → (wp_J5_equals_b26 K h22 1))))))) ∧ (x1 = none → (K 0 h)))
set_option maxHeartbeats 4000000 in
theorem wk_J5_equals {X : Fx} {K : Int32 → Hp → Prop} (C : Cx X cJ5_equals yJ5_equals.cls 2 3) (Rr : Rx X (Option.some Jvm.ClassFile.FieldType.boolean) (pI K)) (N : Nm X yJ5_equals.name) (h : Hp) (x0 : Option Nat) (x1 : Option Nat) (w : wp_J5_equals h x0 x1 K) : Gd X h 0 [some (vR [4, 60] x0), some (vR [4, 60] x1)] [] := by
  unfold wp_J5_equals at w
  refine g_aload_n 1 rfl C dJ5_equals_0 rfl ?_
  refine g_inst [4, 60] [] 4 rfl C dJ5_equals_1 q170 co_Integer_4_60 cno_Integer_ rfl (fun a15 u16 k17 => ?_) (fun _ _ k17 => by cases k17) (fun u16 => ?_)
  · have w := w.1 a15 u16 k17
    refine g_if_eq 7 27 rfl C dJ5_equals_4 rfl (fun q => absurd q (by decide)) (fun _ => ?_)
    refine g_aload_n 8 rfl C dJ5_equals_7 rfl ?_
    obtain ⟨a18, e19, w⟩ := w
    refine g_getI 11 rfl C dJ5_equals_8 fl_Integer_205 rfl e19 rfl ?_
    refine g_aload_n 12 rfl C dJ5_equals_11 rfl ?_
    refine g_cast [4, 60] 15 rfl C dJ5_equals_12 q170 co_Integer_4_60 (fun _ _ q => q) ?_
    refine g_callV (As := []) (T := [4, 60]) (st := [vI _]) "java/lang/Integer" 18 rfl C dJ5_equals_15 q391 q392 q393 q15 q394 rfl okn_6fb5dd (by decide) (by decide) (Nat.le_of_ble_eq_true rfl) u16 (fun q => tC rfl q) rfl (ct_J5_intValue C.glob w) (fun r0 h22 p23 x24 _ => ?_)
    obtain ⟨r21, rfl, w⟩ := p23
    have w := w x24
    change Gd _ _ _ _ (vI r21 :: [vI _])
    refine g_icmp_ne 21 25 rfl C dJ5_equals_18 rfl (fun u25 => ?_) (fun u25 => ?_)
    · have w := w.1 u25
      refine g_iconst 26 rfl C dJ5_equals_25 0 rfl ?_
      refine g_sub [none, none] [none] rfl rfl ?_
      exact wk_J5_equals_b26 C Rr N _ _ w
    · have w := w.2 u25
      refine g_iconst 22 rfl C dJ5_equals_21 1 rfl ?_
      refine g_goto 26 C dJ5_equals_22 rfl ?_
      refine g_sub [none, none] [none] rfl rfl ?_
      exact wk_J5_equals_b26 C Rr N _ _ w
  · have w := w.2 u16
    refine g_if_eq 7 27 rfl C dJ5_equals_4 rfl (fun _ => ?_) (fun q => absurd q (by decide))
    refine g_iconst 28 rfl C dJ5_equals_27 0 rfl ?_
    exact g_zreturn C Rr dJ5_equals_28 (Or.inl rfl) ⟨_, rfl, w⟩
theorem ct_J5_equals {E : Gx} (GE : Glob E) {h : Hp} {x0 : Option Nat} {x1 : Option Nat} {K : Int32 → Hp → Prop} (w : wp_J5_equals h x0 x1 K) : Ct E yJ5_equals cJ5_equals 2 (Option.some Jvm.ClassFile.FieldType.boolean) 3 [vR [4, 60] x0, vR [4, 60] x1] h (pI K) :=
  Ct.of GE (by decide +kernel) (by simp [lvA, t2]) rfl (fun X hX C Rr N => wk_J5_equals C Rr N h x0 x1 w)
def wp_J8_root_b2 (K : Option Nat → Hp → Prop) : Nat → Hp → Option Nat → Prop
  | 0 => fun _ _ => False
  | m9 + 1 => fun h l1 =>
    (∃ a5, l1 = some a5 ∧ (((rf h 6 a5) = none → (K l1 h)) ∧ (∀ a8, (rf h 6 a5) = some a8 → (wp_J8_root_b2 K m9 h (rf h 6 a5)))))
set_option maxHeartbeats 4000000 in
theorem wk_J8_root_b2 {X : Fx} {K : Option Nat → Hp → Prop} (C : Cx X cJ8_root yJ8_root.cls 3 2) (Rr : Rx X (Option.some (Jvm.ClassFile.FieldType.object "java/util/HashMap$TreeNode")) (pR [7] K)) (N : Nm X yJ8_root.name) : ∀ (n : Nat) (h : Hp) (l1 : Option Nat), wp_J8_root_b2 K n h l1 → Gd X h 2 [none, some (vR [7] l1), none] [] := by
  intro n
  induction n with
  | zero => intro h l1 w; exact w.elim
  | succ n ih =>
    intro h l1 w
    unfold wp_J8_root_b2 at w
    refine g_aload_n 3 rfl C dJ8_root_2 rfl ?_
    obtain ⟨a5, e6, w⟩ := w
    refine g_getR 6 rfl C dJ8_root_3 fl_HashMap_TreeNode_9 rfl e6 rfl ?_
    refine g_dup 7 rfl C dJ8_root_6 rfl ?_
    refine g_astore_n 8 rfl C dJ8_root_7 (by decide) (rfl : _ = [none, some (vR [7] _), some (vR [7] _)]) ?_
    refine g_ifnonnull 11 13 rfl C dJ8_root_8 rfl (fun a8 u7 => ?_) (fun u7 => ?_)
    · have w := w.2 a8 u7
      refine g_aload_n 14 rfl C dJ8_root_13 rfl ?_
      refine g_astore_n 15 rfl C dJ8_root_14 (by decide) (rfl : _ = [none, some (vR [7] _), some (vR [7] _)]) ?_
      refine g_goto 2 C dJ8_root_15 rfl ?_
      refine g_sub [none, some none, none] [] rfl rfl ?_
      exact ih _ _ w
    · have w := w.1 u7
      refine g_aload_n 12 rfl C dJ8_root_11 rfl ?_
      exact g_areturn [7] C Rr rfl dJ8_root_12 rfl ⟨_, rfl, w⟩
def wp_J8_root (h : Hp) (x0 : Option Nat) (K : Option Nat → Hp → Prop) : Prop :=
  (∃ n, wp_J8_root_b2 K n h x0)
set_option maxHeartbeats 4000000 in
theorem wk_J8_root {X : Fx} {K : Option Nat → Hp → Prop} (C : Cx X cJ8_root yJ8_root.cls 3 2) (Rr : Rx X (Option.some (Jvm.ClassFile.FieldType.object "java/util/HashMap$TreeNode")) (pR [7] K)) (N : Nm X yJ8_root.name) (h : Hp) (x0 : Option Nat) (w : wp_J8_root h x0 K) : Gd X h 0 [some (vR [7] x0), none, none] [] := by
  unfold wp_J8_root at w
  refine g_aload_n 1 rfl C dJ8_root_0 rfl ?_
  refine g_astore_n 2 rfl C dJ8_root_1 (by decide) (rfl : _ = [some (vR [7] _), some (vR [7] _), none]) ?_
  refine g_sub [none, some none, none] [] rfl rfl ?_
  obtain ⟨n9, w⟩ := w
  exact wk_J8_root_b2 C Rr N n9 _ _ w
theorem ct_J8_root {E : Gx} (GE : Glob E) {h : Hp} {x0 : Option Nat} {K : Option Nat → Hp → Prop} (w : wp_J8_root h x0 K) : Ct E yJ8_root cJ8_root 3 (Option.some (Jvm.ClassFile.FieldType.object "java/util/HashMap$TreeNode")) 2 [vR [7] x0] h (pR [7] K) :=
  Ct.of GE (by decide +kernel) (by simp [lvA, t2]) rfl (fun X hX C Rr N => wk_J8_root C Rr N h x0 w)
def wp_J8_find_b74 (K : Option Nat → Hp → Prop) (h : Hp) (l4 : Option Nat) : Prop :=
  (K l4 h)
set_option maxHeartbeats 4000000 in
theorem wk_J8_find_b74 {X : Fx} {K : Option Nat → Hp → Prop} (C : Cx X cJ8_find yJ8_find.cls 11 4) (Rr : Rx X (Option.some (Jvm.ClassFile.FieldType.object "java/util/HashMap$TreeNode")) (pR [7] K)) (N : Nm X yJ8_find.name) (h : Hp) (l4 : Option Nat) (w : wp_J8_find_b74 K h l4) : Gd X h 74 [none, none, none, none, some (vR [7] l4), none, none, none, none, none, none] [] := by
  unfold wp_J8_find_b74 at w
  refine g_aload 76 rfl C dJ8_find_74 rfl ?_
  exact g_areturn [7] C Rr rfl dJ8_find_76 rfl ⟨_, rfl, w⟩
def wp_J8_find_b165 (G3 : Hp → Int32 → Option Nat → Option Nat → Option Nat → Prop) (K : Option Nat → Hp → Prop) (h : Hp) (l1 : Int32) (l2 : Option Nat) (l3 : Option Nat) (l4 : Option Nat) : Prop :=
  ((l4 = none → (K none h)) ∧ (∀ a44, l4 = some a44 → (G3 h l1 l2 l3 l4)))
set_option maxHeartbeats 4000000 in
theorem wk_J8_find_b165 {X : Fx} {K : Option Nat → Hp → Prop} (C : Cx X cJ8_find yJ8_find.cls 11 4) (Rr : Rx X (Option.some (Jvm.ClassFile.FieldType.object "java/util/HashMap$TreeNode")) (pR [7] K)) (N : Nm X yJ8_find.name) {G3 : Hp → Int32 → Option Nat → Option Nat → Option Nat → Prop} (k3 : ∀ (h : Hp) (l1 : Int32) (l2 : Option Nat) (l3 : Option Nat) (l4 : Option Nat), G3 h l1 l2 l3 l4 → Gd X h 3 [none, some (vI l1), some (vR [4, 60] l2), some (vR [] l3), some (vR [7] l4), none, none, none, none, none, none] []) (h : Hp) (l1 : Int32) (l2 : Option Nat) (l3 : Option Nat) (l4 : Option Nat) (w : wp_J8_find_b165 G3 K h l1 l2 l3 l4) : Gd X h 165 [none, some (vI l1), some (vR [4, 60] l2), some (vR [] l3), some (vR [7] l4), none, none, none, none, none, none] [] := by
  unfold wp_J8_find_b165 at w
  refine g_aload 167 rfl C dJ8_find_165 rfl ?_
  refine g_ifnonnull 170 3 rfl C dJ8_find_167 rfl (fun a44 u43 => ?_) (fun u43 => ?_)
  · have w := w.2 a44 u43
    refine g_sub [none, some none, some none, some none, some none, none, none, none, none, none, none] [] rfl rfl ?_
    exact k3 _ _ _ _ _ w
  · have w := w.1 u43
    refine g_null 171 rfl C dJ8_find_170 ?_
    exact g_areturn [7] C Rr rfl dJ8_find_171 rfl ⟨_, rfl, w⟩
def wp_J8_find_b77 (G3 : Hp → Int32 → Option Nat → Option Nat → Option Nat → Prop) (K : Option Nat → Hp → Prop) (h : Hp) (l1 : Int32) (l2 : Option Nat) (l3 : Option Nat) (l7 : Option Nat) (l8 : Option Nat) (l9 : Option Nat) : Prop :=
  ((l8 = none → (wp_J8_find_b165 G3 K h l1 l2 l3 l9)) ∧ (∀ a46, l8 = some a46 → ((l9 = none → (wp_J8_find_b165 G3 K h l1 l2 l3 l8)) ∧ (∀ a48, l9 = some a48 → ((l3 = none → False) ∧ (∀ a50, l3 = some a50 → False))))))
set_option maxHeartbeats 4000000 in
theorem wk_J8_find_b77 {X : Fx} {K : Option Nat → Hp → Prop} (C : Cx X cJ8_find yJ8_find.cls 11 4) (Rr : Rx X (Option.some (Jvm.ClassFile.FieldType.object "java/util/HashMap$TreeNode")) (pR [7] K)) (N : Nm X yJ8_find.name) {G3 : Hp → Int32 → Option Nat → Option Nat → Option Nat → Prop} (k3 : ∀ (h : Hp) (l1 : Int32) (l2 : Option Nat) (l3 : Option Nat) (l4 : Option Nat), G3 h l1 l2 l3 l4 → Gd X h 3 [none, some (vI l1), some (vR [4, 60] l2), some (vR [] l3), some (vR [7] l4), none, none, none, none, none, none] []) (h : Hp) (l1 : Int32) (l2 : Option Nat) (l3 : Option Nat) (l7 : Option Nat) (l8 : Option Nat) (l9 : Option Nat) (w : wp_J8_find_b77 G3 K h l1 l2 l3 l7 l8 l9) : Gd X h 77 [none, some (vI l1), some (vR [4, 60] l2), some (vR [] l3), none, none, none, some (vR [4, 60] l7), some (vR [7] l8), some (vR [7] l9), none] [] := by
  unfold wp_J8_find_b77 at w
  refine g_aload 79 rfl C dJ8_find_77 rfl ?_
  refine g_ifnonnull 82 89 rfl C dJ8_find_79 rfl (fun a46 u45 => ?_) (fun u45 => ?_)
  · have w := w.2 a46 u45
    refine g_aload 91 rfl C dJ8_find_89 rfl ?_
    refine g_ifnonnull 94 101 rfl C dJ8_find_91 rfl (fun a48 u47 => ?_) (fun u47 => ?_)
    · have w := w.2 a48 u47
      refine g_aload_n 102 rfl C dJ8_find_101 rfl ?_
      refine g_ifnonnull 105 114 rfl C dJ8_find_102 rfl (fun a50 u49 => ?_) (fun u49 => ?_)
      · have w := w.2 a50 u49
        refine g_aload_n 115 rfl C dJ8_find_114 rfl ?_
        refine g_aload_n 116 rfl C dJ8_find_115 rfl ?_
        refine g_aload 118 rfl C dJ8_find_116 rfl ?_
        exact w.elim
      · have w := w.1 u49
        refine g_aload_n 106 rfl C dJ8_find_105 rfl ?_
        exact w.elim
    · have w := w.1 u47
      refine g_aload 96 rfl C dJ8_find_94 rfl ?_
      refine g_astore 98 rfl C dJ8_find_96 (by decide) (rfl : _ = [none, some (vI _), some (vR [4, 60] _), some (vR [] _), some (vR [7] _), none, none, some (vR [4, 60] _), some (vR [7] _), some (vR [7] _), none]) ?_
      refine g_goto 165 C dJ8_find_98 rfl ?_
      refine g_sub [none, some none, some none, some none, some none, none, none, none, none, none, none] [] rfl rfl ?_
      exact wk_J8_find_b165 C Rr N k3 _ _ _ _ _ w
  · have w := w.1 u45
    refine g_aload 84 rfl C dJ8_find_82 rfl ?_
    refine g_astore 86 rfl C dJ8_find_84 (by decide) (rfl : _ = [none, some (vI _), some (vR [4, 60] _), some (vR [] _), some (vR [7] _), none, none, some (vR [4, 60] _), some (vR [7] _), some (vR [7] _), none]) ?_
    refine g_goto 165 C dJ8_find_86 rfl ?_
    refine g_sub [none, some none, some none, some none, some none, none, none, none, none, none, none] [] rfl rfl ?_
    exact wk_J8_find_b165 C Rr N k3 _ _ _ _ _ w
def wp_J8_find_b3 (K : Option Nat → Hp → Prop) : Nat → Hp → Int32 → Option Nat → Option Nat → Option Nat → Prop
  | 0 => fun _ _ _ _ _ => False
  | m9 + 1 => fun h l1 l2 l3 l4 =>
    (∃ a30, l4 = some a30 ∧ (((it h 0 a30) ≤ l1 → ((l1 ≤ (it h 0 a30) → (((rf h 1 a30) = l2 → (wp_J8_find_b74 K h l4)) ∧ (¬ (rf h 1 a30) = l2 → ((l2 = none → (wp_J8_find_b77 (wp_J8_find_b3 K m9) K h l1 l2 l3 (rf h 1 a30) (rf h 7 a30) (rf h 8 a30))) ∧ (∀ a36, l2 = some a36 → (wp_J5_equals h l2 (rf h 1 a30) (fun r38 h39 => Ex h h39 → ((r38 = 0 → (wp_J8_find_b77 (wp_J8_find_b3 K m9) K h39 l1 l2 l3 (rf h 1 a30) (rf h 7 a30) (rf h 8 a30))) ∧ (¬ r38 = 0 → (wp_J8_find_b74 K h39 l4)))))))))) ∧ (¬ l1 ≤ (it h 0 a30) → (wp_J8_find_b165 (wp_J8_find_b3 K m9) K h l1 l2 l3 (rf h 8 a30))))) ∧ (¬ (it h 0 a30) ≤ l1 → (wp_J8_find_b165 (wp_J8_find_b3 K m9) K h l1 l2 l3 (rf h 7 a30)))))
set_option maxHeartbeats 4000000 in
theorem wk_J8_find_b3 {X : Fx} {K : Option Nat → Hp → Prop} (C : Cx X cJ8_find yJ8_find.cls 11 4) (Rr : Rx X (Option.some (Jvm.ClassFile.FieldType.object "java/util/HashMap$TreeNode")) (pR [7] K)) (N : Nm X yJ8_find.name) : ∀ (n : Nat) (h : Hp) (l1 : Int32) (l2 : Option Nat) (l3 : Option Nat) (l4 : Option Nat), wp_J8_find_b3 K n h l1 l2 l3 l4 → Gd X h 3 [none, some (vI l1), some (vR [4, 60] l2), some (vR [] l3), some (vR [7] l4), none, none, none, none, none, none] [] := by
  intro n
  induction n with
  | zero => intro h l1 l2 l3 l4 w; exact w.elim
  | succ n ih =>
    intro h l1 l2 l3 l4 w
    unfold wp_J8_find_b3 at w
    refine g_aload 5 rfl C dJ8_find_3 rfl ?_
    obtain ⟨a30, e31, w⟩ := w
    refine g_getR 8 rfl C dJ8_find_5 fl_HashMap_TreeNode_39 rfl e31 rfl ?_
    refine g_astore 10 rfl C dJ8_find_8 (by decide) (rfl : _ = [none, some (vI _), some (vR [4, 60] _), some (vR [] _), some (vR [7] _), none, none, none, some (vR [7] _), none, none]) ?_
    refine g_aload 12 rfl C dJ8_find_10 rfl ?_
    refine g_getR 15 rfl C dJ8_find_12 fl_HashMap_TreeNode_42 rfl e31 rfl ?_
    refine g_astore 17 rfl C dJ8_find_15 (by decide) (rfl : _ = [none, some (vI _), some (vR [4, 60] _), some (vR [] _), some (vR [7] _), none, none, none, some (vR [7] _), some (vR [7] _), none]) ?_
    refine g_aload 19 rfl C dJ8_find_17 rfl ?_
    refine g_getI 22 rfl C dJ8_find_19 fl_HashMap_TreeNode_15 rfl e31 rfl ?_
    refine g_dup 23 rfl C dJ8_find_22 rfl ?_
    refine g_istore 25 rfl C dJ8_find_23 (by decide) (rfl : _ = [none, some (vI _), some (vR [4, 60] _), some (vR [] _), some (vR [7] _), some (vI _), none, none, some (vR [7] _), some (vR [7] _), none]) ?_
    refine g_iload_n 26 rfl C dJ8_find_25 rfl ?_
    refine g_icmp_le 29 36 rfl C dJ8_find_26 rfl (fun u32 => ?_) (fun u32 => ?_)
    · have w := w.1 u32
      refine g_iload 38 rfl C dJ8_find_36 rfl ?_
      refine g_iload_n 39 rfl C dJ8_find_38 rfl ?_
      refine g_icmp_ge 42 49 rfl C dJ8_find_39 rfl (fun u33 => ?_) (fun u33 => ?_)
      · have w := w.1 u33
        refine g_aload 51 rfl C dJ8_find_49 rfl ?_
        refine g_getR 54 rfl C dJ8_find_51 fl_HashMap_TreeNode_45 rfl e31 rfl ?_
        refine g_dup 55 rfl C dJ8_find_54 rfl ?_
        refine g_astore 57 rfl C dJ8_find_55 (by decide) (rfl : _ = [none, some (vI _), some (vR [4, 60] _), some (vR [] _), some (vR [7] _), some (vI _), none, some (vR [4, 60] _), some (vR [7] _), some (vR [7] _), none]) ?_
        refine g_aload_n 58 rfl C dJ8_find_57 rfl ?_
        refine g_acmp_eq 61 74 rfl C dJ8_find_58 rfl (fun u34 => ?_) (fun u34 => ?_)
        · have w := w.1 u34
          refine g_sub [none, none, none, none, some none, none, none, none, none, none, none] [] rfl rfl ?_
          exact wk_J8_find_b74 C Rr N _ _ w
        · have w := w.2 u34
          refine g_aload_n 62 rfl C dJ8_find_61 rfl ?_
          refine g_ifnull 65 77 rfl C dJ8_find_62 rfl (fun u35 => ?_) (fun a36 u35 => ?_)
          · have w := w.1 u35
            refine g_sub [none, some none, some none, some none, none, none, none, some none, some none, some none, none] [] rfl rfl ?_
            exact wk_J8_find_b77 C Rr N ih _ _ _ _ _ _ _ w
          · have w := w.2 a36 u35
            refine g_aload_n 66 rfl C dJ8_find_65 rfl ?_
            refine g_aload 68 rfl C dJ8_find_66 rfl ?_
            refine g_callU (As := [vR [4, 60] _]) (T := [4, 60]) (st := []) "java/lang/Integer" 71 rfl C dJ8_find_68 q404 q384 dcl_e59518 q388 q389 q15 q390 okn_ad8bbc (by decide) (by decide) (Nat.le_of_ble_eq_true rfl) u35 (fun q => tC rfl q) rfl (ct_J5_equals C.glob w) (fun r0 h39 p40 x41 _ => ?_)
            obtain ⟨r38, rfl, w⟩ := p40
            have w := w x41
            change Gd _ _ _ _ (vI r38 :: [])
            refine g_if_eq 74 77 rfl C dJ8_find_71 rfl (fun u42 => ?_) (fun u42 => ?_)
            · have w := w.1 u42
              refine g_sub [none, some none, some none, some none, none, none, none, some none, some none, some none, none] [] rfl rfl ?_
              exact wk_J8_find_b77 C Rr N ih _ _ _ _ _ _ _ w
            · have w := w.2 u42
              refine g_sub [none, none, none, none, some none, none, none, none, none, none, none] [] rfl rfl ?_
              exact wk_J8_find_b74 C Rr N _ _ w
      · have w := w.2 u33
        refine g_aload 44 rfl C dJ8_find_42 rfl ?_
        refine g_astore 46 rfl C dJ8_find_44 (by decide) (rfl : _ = [none, some (vI _), some (vR [4, 60] _), some (vR [] _), some (vR [7] _), some (vI _), none, none, some (vR [7] _), some (vR [7] _), none]) ?_
        refine g_goto 165 C dJ8_find_46 rfl ?_
        refine g_sub [none, some none, some none, some none, some none, none, none, none, none, none, none] [] rfl rfl ?_
        exact wk_J8_find_b165 C Rr N ih _ _ _ _ _ w
    · have w := w.2 u32
      refine g_aload 31 rfl C dJ8_find_29 rfl ?_
      refine g_astore 33 rfl C dJ8_find_31 (by decide) (rfl : _ = [none, some (vI _), some (vR [4, 60] _), some (vR [] _), some (vR [7] _), some (vI _), none, none, some (vR [7] _), some (vR [7] _), none]) ?_
      refine g_goto 165 C dJ8_find_33 rfl ?_
      refine g_sub [none, some none, some none, some none, some none, none, none, none, none, none, none] [] rfl rfl ?_
      exact wk_J8_find_b165 C Rr N ih _ _ _ _ _ w
def wp_J8_find (h : Hp) (x0 : Option Nat) (x1 : Int32) (x2 : Option Nat) (x3 : Option Nat) (K : Option Nat → Hp → Prop) : Prop :=
  (∃ n, wp_J8_find_b3 K n h x1 x2 x3 x0)
set_option maxHeartbeats 4000000 in
theorem wk_J8_find {X : Fx} {K : Option Nat → Hp → Prop} (C : Cx X cJ8_find yJ8_find.cls 11 4) (Rr : Rx X (Option.some (Jvm.ClassFile.FieldType.object "java/util/HashMap$TreeNode")) (pR [7] K)) (N : Nm X yJ8_find.name) (h : Hp) (x0 : Option Nat) (x1 : Int32) (x2 : Option Nat) (x3 : Option Nat) (w : wp_J8_find h x0 x1 x2 x3 K) : Gd X h 0 [some (vR [7] x0), some (vI x1), some (vR [4, 60] x2), some (vR [] x3), none, none, none, none, none, none, none] [] := by
  unfold wp_J8_find at w
  refine g_aload_n 1 rfl C dJ8_find_0 rfl ?_
  refine g_astore 3 rfl C dJ8_find_1 (by decide) (rfl : _ = [some (vR [7] _), some (vI _), some (vR [4, 60] _), some (vR [] _), some (vR [7] _), none, none, none, none, none, none]) ?_
  refine g_sub [none, some none, some none, some none, some none, none, none, none, none, none, none] [] rfl rfl ?_
  obtain ⟨n9, w⟩ := w
  exact wk_J8_find_b3 C Rr N n9 _ _ _ _ _ w
theorem ct_J8_find {E : Gx} (GE : Glob E) {h : Hp} {x0 : Option Nat} {x1 : Int32} {x2 : Option Nat} {x3 : Option Nat} {K : Option Nat → Hp → Prop} (w : wp_J8_find h x0 x1 x2 x3 K) : Ct E yJ8_find cJ8_find 11 (Option.some (Jvm.ClassFile.FieldType.object "java/util/HashMap$TreeNode")) 4 [vR [7] x0, vI x1, vR [4, 60] x2, vR [] x3] h (pR [7] K) :=
  Ct.of GE (by decide +kernel) (by simp [lvA, t2]) rfl (fun X hX C Rr N => wk_J8_find C Rr N h x0 x1 x2 x3 w)
def wp_J8_getTreeNode_b15 (K : Option Nat → Hp → Prop) (h : Hp) (l1 : Int32) (l2 : Option Nat) (s0 : Option Nat) : Prop :=
  (∃ a28, s0 = some a28 ∧ (wp_J8_find h s0 l1 l2 none (fun r31 h32 => Ex h h32 → (K r31 h32))))
set_option maxHeartbeats 4000000 in
theorem wk_J8_getTreeNode_b15 {X : Fx} {K : Option Nat → Hp → Prop} (C : Cx X cJ8_getTreeNode yJ8_getTreeNode.cls 3 5) (Rr : Rx X (Option.some (Jvm.ClassFile.FieldType.object "java/util/HashMap$TreeNode")) (pR [7] K)) (N : Nm X yJ8_getTreeNode.name) (h : Hp) (l1 : Int32) (l2 : Option Nat) (s0 : Option Nat) (w : wp_J8_getTreeNode_b15 K h l1 l2 s0) : Gd X h 15 [none, some (vI l1), some (vR [4, 60] l2)] [vR [7] s0] := by
  unfold wp_J8_getTreeNode_b15 at w
  refine g_iload_n 16 rfl C dJ8_getTreeNode_15 rfl ?_
  refine g_aload_n 17 rfl C dJ8_getTreeNode_16 rfl ?_
  refine g_null 18 rfl C dJ8_getTreeNode_17 ?_
  obtain ⟨a28, e29, w⟩ := w
  refine g_callV (As := [vI _, vR [4, 60] _, vR [] _]) (T := [7]) (st := []) "java/util/HashMap$TreeNode" 21 rfl C dJ8_getTreeNode_18 q405 q406 q407 q21 q408 rfl okn_0a98a1 (by decide) (by decide) (Nat.le_of_ble_eq_true rfl) e29 (fun q => tC rfl q) rfl (ct_J8_find C.glob w) (fun r0 h32 p33 x34 _ => ?_)
  obtain ⟨r31, rfl, w⟩ := p33
  have w := w x34
  change Gd _ _ _ _ (vR [7] r31 :: [])
  exact g_areturn [7] C Rr rfl dJ8_getTreeNode_21 rfl ⟨_, rfl, w⟩
def wp_J8_getTreeNode (h : Hp) (x0 : Option Nat) (x1 : Int32) (x2 : Option Nat) (K : Option Nat → Hp → Prop) : Prop :=
  (∃ a19, x0 = some a19 ∧ (((rf h 6 a19) = none → (wp_J8_getTreeNode_b15 K h x1 x2 x0)) ∧ (∀ a22, (rf h 6 a19) = some a22 → (wp_J8_root h x0 (fun r24 h25 => Ex h h25 → (wp_J8_getTreeNode_b15 K h25 x1 x2 r24))))))
set_option maxHeartbeats 4000000 in
theorem wk_J8_getTreeNode {X : Fx} {K : Option Nat → Hp → Prop} (C : Cx X cJ8_getTreeNode yJ8_getTreeNode.cls 3 5) (Rr : Rx X (Option.some (Jvm.ClassFile.FieldType.object "java/util/HashMap$TreeNode")) (pR [7] K)) (N : Nm X yJ8_getTreeNode.name) (h : Hp) (x0 : Option Nat) (x1 : Int32) (x2 : Option Nat) (w : wp_J8_getTreeNode h x0 x1 x2 K) : Gd X h 0 [some (vR [7] x0), some (vI x1), some (vR [4, 60] x2)] [] := by
  unfold wp_J8_getTreeNode at w
  refine g_aload_n 1 rfl C dJ8_getTreeNode_0 rfl ?_
  obtain ⟨a19, e20, w⟩ := w
  refine g_getR 4 rfl C dJ8_getTreeNode_1 fl_HashMap_TreeNode_9 rfl e20 rfl ?_
  refine g_ifnull 7 14 rfl C dJ8_getTreeNode_4 rfl (fun u21 => ?_) (fun a22 u21 => ?_)
  · have w := w.1 u21
    refine g_aload_n 15 rfl C dJ8_getTreeNode_14 rfl ?_
    refine g_sub [none, some none, some none] [none] rfl rfl ?_
    exact wk_J8_getTreeNode_b15 C Rr N _ _ _ _ w
  · have w := w.2 a22 u21
    refine g_aload_n 8 rfl C dJ8_getTreeNode_7 rfl ?_
    refine g_callV (As := []) (T := [7]) (st := []) "java/util/HashMap$TreeNode" 11 rfl C dJ8_getTreeNode_8 q400 q401 q402 q21 q403 rfl okn_0e0e18 (by decide) (by decide) (Nat.le_of_ble_eq_true rfl) e20 (fun q => tC rfl q) rfl (ct_J8_root C.glob w) (fun r0 h25 p26 x27 _ => ?_)
    obtain ⟨r24, rfl, w⟩ := p26
    have w := w x27
    change Gd _ _ _ _ (vR [7] r24 :: [])
    refine g_goto 15 C dJ8_getTreeNode_11 rfl ?_
    refine g_sub [none, some none, some none] [none] rfl rfl ?_
    exact wk_J8_getTreeNode_b15 C Rr N _ _ _ _ w
theorem ct_J8_getTreeNode {E : Gx} (GE : Glob E) {h : Hp} {x0 : Option Nat} {x1 : Int32} {x2 : Option Nat} {K : Option Nat → Hp → Prop} (w : wp_J8_getTreeNode h x0 x1 x2 K) : Ct E yJ8_getTreeNode cJ8_getTreeNode 3 (Option.some (Jvm.ClassFile.FieldType.object "java/util/HashMap$TreeNode")) 5 [vR [7] x0, vI x1, vR [4, 60] x2] h (pR [7] K) :=
  Ct.of GE (by decide +kernel) (by simp [lvA, t2]) rfl (fun X hX C Rr N => wk_J8_getTreeNode C Rr N h x0 x1 x2 w)
def wp_J1_getNode_b69 (K : Option Nat → Hp → Prop) (h : Hp) (l3 : Option Nat) : Prop :=
  (K l3 h)
set_option maxHeartbeats 4000000 in
theorem wk_J1_getNode_b69 {X : Fx} {K : Option Nat → Hp → Prop} (C : Cx X cJ1_getNode yJ1_getNode.cls 8 6) (Rr : Rx X (Option.some (Jvm.ClassFile.FieldType.object "java/util/HashMap$Node")) (pR [5, 6, 7] K)) (N : Nm X yJ1_getNode.name) (h : Hp) (l3 : Option Nat) (w : wp_J1_getNode_b69 K h l3) : Gd X h 69 [none, none, none, some (vR [5, 6, 7] l3), none, none, none, none] [] := by
  unfold wp_J1_getNode_b69 at w
  refine g_aload_n 70 rfl C dJ1_getNode_69 rfl ?_
  exact g_areturn [5, 6, 7] C Rr rfl dJ1_getNode_70 rfl ⟨_, rfl, w⟩
def wp_J1_getNode_b134 (K : Option Nat → Hp → Prop) (h : Hp) (l4 : Option Nat) : Prop :=
  (K l4 h)
set_option maxHeartbeats 4000000 in
theorem wk_J1_getNode_b134 {X : Fx} {K : Option Nat → Hp → Prop} (C : Cx X cJ1_getNode yJ1_getNode.cls 8 6) (Rr : Rx X (Option.some (Jvm.ClassFile.FieldType.object "java/util/HashMap$Node")) (pR [5, 6, 7] K)) (N : Nm X yJ1_getNode.name) (h : Hp) (l4 : Option Nat) (w : wp_J1_getNode_b134 K h l4) : Gd X h 134 [none, none, none, none, some (vR [5, 6, 7] l4), none, none, none] [] := by
  unfold wp_J1_getNode_b134 at w
  refine g_aload 136 rfl C dJ1_getNode_134 rfl ?_
  exact g_areturn [5, 6, 7] C Rr rfl dJ1_getNode_136 rfl ⟨_, rfl, w⟩
def wp_J1_getNode_b148 (K : Option Nat → Hp → Prop) (h : Hp)  : Prop :=
  (K none h)
set_option maxHeartbeats 4000000 in
theorem wk_J1_getNode_b148 {X : Fx} {K : Option Nat → Hp → Prop} (C : Cx X cJ1_getNode yJ1_getNode.cls 8 6) (Rr : Rx X (Option.some (Jvm.ClassFile.FieldType.object "java/util/HashMap$Node")) (pR [5, 6, 7] K)) (N : Nm X yJ1_getNode.name) (h : Hp)  (w : wp_J1_getNode_b148 K h ) : Gd X h 148 [none, none, none, none, none, none, none, none] [] := by
  unfold wp_J1_getNode_b148 at w
  refine g_null 149 rfl C dJ1_getNode_148 ?_
  exact g_areturn [5, 6, 7] C Rr rfl dJ1_getNode_149 rfl ⟨_, rfl, w⟩
def wp_J1_getNode_b137 (G99 : Hp → Option Nat → Option Nat → Int32 → Prop) (K : Option Nat → Hp → Prop) (h : Hp) (l1 : Option Nat) (l4 : Option Nat) (l6 : Int32) : Prop :=
  (∃ a124, l4 = some a124 ∧ (((rf h 3 a124) = none → (wp_J1_getNode_b148 K h)) ∧ (∀ a127, (rf h 3 a124) = some a127 → (G99 h l1 (rf h 3 a124) l6))))
set_option maxHeartbeats 4000000 in
theorem wk_J1_getNode_b137 {X : Fx} {K : Option Nat → Hp → Prop} (C : Cx X cJ1_getNode yJ1_getNode.cls 8 6) (Rr : Rx X (Option.some (Jvm.ClassFile.FieldType.object "java/util/HashMap$Node")) (pR [5, 6, 7] K)) (N : Nm X yJ1_getNode.name) {G99 : Hp → Option Nat → Option Nat → Int32 → Prop} (k99 : ∀ (h : Hp) (l1 : Option Nat) (l4 : Option Nat) (l6 : Int32), G99 h l1 l4 l6 → Gd X h 99 [none, some (vR [4, 60] l1), none, none, some (vR [5, 6, 7] l4), none, some (vI l6), none] []) (h : Hp) (l1 : Option Nat) (l4 : Option Nat) (l6 : Int32) (w : wp_J1_getNode_b137 G99 K h l1 l4 l6) : Gd X h 137 [none, some (vR [4, 60] l1), none, none, some (vR [5, 6, 7] l4), none, some (vI l6), none] [] := by
  unfold wp_J1_getNode_b137 at w
  refine g_aload 139 rfl C dJ1_getNode_137 rfl ?_
  obtain ⟨a124, e125, w⟩ := w
  refine g_getR 142 rfl C dJ1_getNode_139 fl_HashMap_177 rfl e125 rfl ?_
  refine g_dup 143 rfl C dJ1_getNode_142 rfl ?_
  refine g_astore 145 rfl C dJ1_getNode_143 (by decide) (rfl : _ = [none, some (vR [4, 60] _), none, none, some (vR [5, 6, 7] _), none, some (vI _), none]) ?_
  refine g_ifnonnull 148 99 rfl C dJ1_getNode_145 rfl (fun a127 u126 => ?_) (fun u126 => ?_)
  · have w := w.2 a127 u126
    refine g_sub [none, some none, none, none, some none, none, some none, none] [] rfl rfl ?_
    exact k99 _ _ _ _ w
  · have w := w.1 u126
    refine g_sub [none, none, none, none, none, none, none, none] [] rfl rfl ?_
    exact wk_J1_getNode_b148 C Rr N _ w
def wp_J1_getNode_b99 (K : Option Nat → Hp → Prop) : Nat → Hp → Option Nat → Option Nat → Int32 → Prop
  | 0 => fun _ _ _ _ => False
  | m9 + 1 => fun h l1 l4 l6 =>
    (∃ a99, l4 = some a99 ∧ ((¬ (it h 0 a99) = l6 → (wp_J1_getNode_b137 (wp_J1_getNode_b99 K m9) K h l1 l4 l6)) ∧ ((it h 0 a99) = l6 → (((rf h 1 a99) = l1 → (wp_J1_getNode_b134 K h l4)) ∧ (¬ (rf h 1 a99) = l1 → ((l1 = none → (wp_J1_getNode_b137 (wp_J1_getNode_b99 K m9) K h l1 l4 l6)) ∧ (∀ a104, l1 = some a104 → (wp_J5_equals h l1 (rf h 1 a99) (fun r106 h107 => Ex h h107 → ((r106 = 0 → (wp_J1_getNode_b137 (wp_J1_getNode_b99 K m9) K h107 l1 l4 l6)) ∧ (¬ r106 = 0 → (wp_J1_getNode_b134 K h107 l4))))))))))))
set_option maxHeartbeats 4000000 in
theorem wk_J1_getNode_b99 {X : Fx} {K : Option Nat → Hp → Prop} (C : Cx X cJ1_getNode yJ1_getNode.cls 8 6) (Rr : Rx X (Option.some (Jvm.ClassFile.FieldType.object "java/util/HashMap$Node")) (pR [5, 6, 7] K)) (N : Nm X yJ1_getNode.name) : ∀ (n : Nat) (h : Hp) (l1 : Option Nat) (l4 : Option Nat) (l6 : Int32), wp_J1_getNode_b99 K n h l1 l4 l6 → Gd X h 99 [none, some (vR [4, 60] l1), none, none, some (vR [5, 6, 7] l4), none, some (vI l6), none] [] := by
  intro n
  induction n with
  | zero => intro h l1 l4 l6 w; exact w.elim
  | succ n ih =>
    intro h l1 l4 l6 w
    unfold wp_J1_getNode_b99 at w
    refine g_aload 101 rfl C dJ1_getNode_99 rfl ?_
    obtain ⟨a99, e100, w⟩ := w
    refine g_getI 104 rfl C dJ1_getNode_101 fl_HashMap_168 rfl e100 rfl ?_
    refine g_iload 106 rfl C dJ1_getNode_104 rfl ?_
    refine g_icmp_ne 109 137 rfl C dJ1_getNode_106 rfl (fun u101 => ?_) (fun u101 => ?_)
    · have w := w.1 u101
      refine g_sub [none, some none, none, none, some none, none, some none, none] [] rfl rfl ?_
      exact wk_J1_getNode_b137 C Rr N ih _ _ _ _ w
    · have w := w.2 u101
      refine g_aload 111 rfl C dJ1_getNode_109 rfl ?_
      refine g_getR 114 rfl C dJ1_getNode_111 fl_HashMap_170 rfl e100 rfl ?_
      refine g_dup 115 rfl C dJ1_getNode_114 rfl ?_
      refine g_astore 117 rfl C dJ1_getNode_115 (by decide) (rfl : _ = [none, some (vR [4, 60] _), none, none, some (vR [5, 6, 7] _), none, some (vI _), some (vR [4, 60] _)]) ?_
      refine g_aload_n 118 rfl C dJ1_getNode_117 rfl ?_
      refine g_acmp_eq 121 134 rfl C dJ1_getNode_118 rfl (fun u102 => ?_) (fun u102 => ?_)
      · have w := w.1 u102
        refine g_sub [none, none, none, none, some none, none, none, none] [] rfl rfl ?_
        exact wk_J1_getNode_b134 C Rr N _ _ w
      · have w := w.2 u102
        refine g_aload_n 122 rfl C dJ1_getNode_121 rfl ?_
        refine g_ifnull 125 137 rfl C dJ1_getNode_122 rfl (fun u103 => ?_) (fun a104 u103 => ?_)
        · have w := w.1 u103
          refine g_sub [none, some none, none, none, some none, none, some none, none] [] rfl rfl ?_
          exact wk_J1_getNode_b137 C Rr N ih _ _ _ _ w
        · have w := w.2 a104 u103
          refine g_aload_n 126 rfl C dJ1_getNode_125 rfl ?_
          refine g_aload 128 rfl C dJ1_getNode_126 rfl ?_
          refine g_callU (As := [vR [4, 60] _]) (T := [4, 60]) (st := []) "java/lang/Integer" 131 rfl C dJ1_getNode_128 q382 q384 dcl_e59518 q388 q389 q15 q390 okn_ad8bbc (by decide) (by decide) (Nat.le_of_ble_eq_true rfl) u103 (fun q => tC rfl q) rfl (ct_J5_equals C.glob w) (fun r0 h107 p108 x109 _ => ?_)
          obtain ⟨r106, rfl, w⟩ := p108
          have w := w x109
          change Gd _ _ _ _ (vI r106 :: [])
          refine g_if_eq 134 137 rfl C dJ1_getNode_131 rfl (fun u110 => ?_) (fun u110 => ?_)
          · have w := w.1 u110
            refine g_sub [none, some none, none, none, some none, none, some none, none] [] rfl rfl ?_
            exact wk_J1_getNode_b137 C Rr N ih _ _ _ _ w
          · have w := w.2 u110
            refine g_sub [none, none, none, none, some none, none, none, none] [] rfl rfl ?_
            exact wk_J1_getNode_b134 C Rr N _ _ w
def wp_J1_getNode_b71 (K : Option Nat → Hp → Prop) (h : Hp) (l1 : Option Nat) (l3 : Option Nat) (l6 : Int32) : Prop :=
  (∃ a111, l3 = some a111 ∧ (((rf h 3 a111) = none → (wp_J1_getNode_b148 K h)) ∧ (∀ a114, (rf h 3 a111) = some a114 → ((kd h a111 ∈ [7] → ((∀ a, l3 = some a → kd h a ∈ [7]) ∧ (wp_J8_getTreeNode h l3 l6 l1 (fun r120 h121 => Ex h h121 → (K r120 h121))))) ∧ (kd h a111 ∈ [5, 6] → (∃ n, wp_J1_getNode_b99 K n h l1 (rf h 3 a111) l6))))))
set_option maxHeartbeats 4000000 in
theorem wk_J1_getNode_b71 {X : Fx} {K : Option Nat → Hp → Prop} (C : Cx X cJ1_getNode yJ1_getNode.cls 8 6) (Rr : Rx X (Option.some (Jvm.ClassFile.FieldType.object "java/util/HashMap$Node")) (pR [5, 6, 7] K)) (N : Nm X yJ1_getNode.name) (h : Hp) (l1 : Option Nat) (l3 : Option Nat) (l6 : Int32) (w : wp_J1_getNode_b71 K h l1 l3 l6) : Gd X h 71 [none, some (vR [4, 60] l1), none, some (vR [5, 6, 7] l3), none, none, some (vI l6), none] [] := by
  unfold wp_J1_getNode_b71 at w
  refine g_aload_n 72 rfl C dJ1_getNode_71 rfl ?_
  obtain ⟨a111, e112, w⟩ := w
  refine g_getR 75 rfl C dJ1_getNode_72 fl_HashMap_177 rfl e112 rfl ?_
  refine g_dup 76 rfl C dJ1_getNode_75 rfl ?_
  refine g_astore 78 rfl C dJ1_getNode_76 (by decide) (rfl : _ = [none, some (vR [4, 60] _), none, some (vR [5, 6, 7] _), some (vR [5, 6, 7] _), none, some (vI _), none]) ?_
  refine g_ifnull 81 148 rfl C dJ1_getNode_78 rfl (fun u113 => ?_) (fun a114 u113 => ?_)
  · have w := w.1 u113
    refine g_sub [none, none, none, none, none, none, none, none] [] rfl rfl ?_
    exact wk_J1_getNode_b148 C Rr N _ w
  · have w := w.2 a114 u113
    refine g_aload_n 82 rfl C dJ1_getNode_81 rfl ?_
    refine g_inst [7] [5, 6] 85 rfl C dJ1_getNode_82 q222 co_HashMap_TreeNode_7 cno_HashMap_TreeNode_5_6 rfl (fun a115 u116 k117 => ?_) (fun a115 u116 k117 => ?_) (fun u116 => absurd (u116.symm.trans e112) (fun z => by cases z))
    · have a115e := Option.some.inj (e112.symm.trans u116)
      subst a115e
      have w := w.1 k117
      refine g_if_eq 88 99 rfl C dJ1_getNode_85 rfl (fun q => absurd q (by decide)) (fun _ => ?_)
      refine g_aload_n 89 rfl C dJ1_getNode_88 rfl ?_
      obtain ⟨k118, w⟩ := w
      refine g_cast [7] 92 rfl C dJ1_getNode_89 q222 co_HashMap_TreeNode_7 (fun a q _ => k118 a q) ?_
      refine g_iload 94 rfl C dJ1_getNode_92 rfl ?_
      refine g_aload_n 95 rfl C dJ1_getNode_94 rfl ?_
      refine g_callV (As := [vI _, vR [4, 60] _]) (T := [7]) (st := []) "java/util/HashMap$TreeNode" 98 rfl C dJ1_getNode_95 q515 q516 q517 q21 q518 rfl okn_9ab985 (by decide) (by decide) (Nat.le_of_ble_eq_true rfl) e112 (fun q => tC rfl q) rfl (ct_J8_getTreeNode C.glob w) (fun r0 h121 p122 x123 _ => ?_)
      obtain ⟨r120, rfl, w⟩ := p122
      have w := w x123
      change Gd _ _ _ _ (vR [7] r120 :: [])
      exact g_areturn [5, 6, 7] C Rr rfl dJ1_getNode_98 rfl ⟨_, rfl, w⟩
    · have a115e := Option.some.inj (e112.symm.trans u116)
      subst a115e
      have w := w.2 k117
      refine g_if_eq 88 99 rfl C dJ1_getNode_85 rfl (fun _ => ?_) (fun q => absurd q (by decide))
      refine g_sub [none, some none, none, none, some none, none, some none, none] [] rfl rfl ?_
      obtain ⟨n9, w⟩ := w
      exact wk_J1_getNode_b99 C Rr N n9 _ _ _ _ w
def wp_J1_getNode (h : Hp) (x0 : Option Nat) (x1 : Option Nat) (K : Option Nat → Hp → Prop) : Prop :=
  (∃ a73, x0 = some a73 ∧ (((rf h 13 a73) = none → (wp_J1_getNode_b148 K h)) ∧ (∀ a76, (rf h 13 a73) = some a76 → (ln h a76 < 2 ^ 26 → (((nI (ln h a76)) ≤ 0 → (wp_J1_getNode_b148 K h)) ∧ (¬ (nI (ln h a76)) ≤ 0 → (wp_J1_hash h x1 (fun r80 h81 => Ex h h81 → (∃ j84, (((nI (ln h a76)) - 1) &&& r80) = nI j84 ∧ j84 < ln h81 a76 ∧ (((rf h81 (100 + j84) a76) = none → (wp_J1_getNode_b148 K h81)) ∧ (∀ a88, (rf h81 (100 + j84) a76) = some a88 → ((¬ (it h81 0 a88) = r80 → (wp_J1_getNode_b71 K h81 x1 (rf h81 (100 + j84) a76) r80)) ∧ ((it h81 0 a88) = r80 → (((rf h81 1 a88) = x1 → (wp_J1_getNode_b69 K h81 (rf h81 (100 + j84) a76))) ∧ (¬ (rf h81 1 a88) = x1 → ((x1 = none → (wp_J1_getNode_b71 K h81 x1 (rf h81 (100 + j84) a76) r80)) ∧ (∀ a92, x1 = some a92 → (wp_J5_equals h81 x1 (rf h81 1 a88) (fun r94 h95 => Ex h81 h95 → ((r94 = 0 → (wp_J1_getNode_b71 K h95 x1 (rf h81 (100 + j84) a76) r80)) ∧ (¬ r94 = 0 → (wp_J1_getNode_b69 K h95 (rf h81 (100 + j84) a76)))))))))))))))))))))))
set_option maxHeartbeats 4000000 in
theorem wk_J1_getNode {X : Fx} {K : Option Nat → Hp → Prop} (C : Cx X cJ1_getNode yJ1_getNode.cls 8 6) (Rr : Rx X (Option.some (Jvm.ClassFile.FieldType.object "java/util/HashMap$Node")) (pR [5, 6, 7] K)) (N : Nm X yJ1_getNode.name) (h : Hp) (x0 : Option Nat) (x1 : Option Nat) (w : wp_J1_getNode h x0 x1 K) : Gd X h 0 [some (vR [2, 3] x0), some (vR [4, 60] x1), none, none, none, none, none, none] [] := by
  unfold wp_J1_getNode at w
  refine g_aload_n 1 rfl C dJ1_getNode_0 rfl ?_
  obtain ⟨a73, e74, w⟩ := w
  refine g_getR 4 rfl C dJ1_getNode_1 fl_HashMap_105 rfl e74 rfl ?_
  refine g_dup 5 rfl C dJ1_getNode_4 rfl ?_
  refine g_astore_n 6 rfl C dJ1_getNode_5 (by decide) (rfl : _ = [some (vR [2, 3] _), some (vR [4, 60] _), some (vR [51] _), none, none, none, none, none]) ?_
  refine g_ifnull 9 148 rfl C dJ1_getNode_6 rfl (fun u75 => ?_) (fun a76 u75 => ?_)
  · have w := w.1 u75
    refine g_sub [none, none, none, none, none, none, none, none] [] rfl rfl ?_
    exact wk_J1_getNode_b148 C Rr N _ w
  · have w := w.2 a76 u75
    refine g_aload_n 10 rfl C dJ1_getNode_9 rfl ?_
    refine g_alen 11 rfl C dJ1_getNode_10 u75 rfl (fun u77 => ?_)
    have w := w u77
    refine g_dup 12 rfl C dJ1_getNode_11 rfl ?_
    refine g_istore 14 rfl C dJ1_getNode_12 (by decide) (rfl : _ = [some (vR [2, 3] _), some (vR [4, 60] _), some (vR [51] _), none, none, some (vI _), none, none]) ?_
    refine g_if_le 17 148 rfl C dJ1_getNode_14 rfl (fun u78 => ?_) (fun u78 => ?_)
    · have w := w.1 u78
      refine g_sub [none, none, none, none, none, none, none, none] [] rfl rfl ?_
      exact wk_J1_getNode_b148 C Rr N _ w
    · have w := w.2 u78
      refine g_aload_n 18 rfl C dJ1_getNode_17 rfl ?_
      refine g_iload 20 rfl C dJ1_getNode_18 rfl ?_
      refine g_iconst 21 rfl C dJ1_getNode_20 1 rfl ?_
      refine g_isub 22 rfl C dJ1_getNode_21 ?_
      refine g_aload_n 23 rfl C dJ1_getNode_22 rfl ?_
      refine g_callS (As := [vR [4, 60] _]) (st := [vI _, vR [51] _]) 26 rfl C dJ1_getNode_23 q189 q190 q11 q191 okn_b794a0 (by decide) (by decide) (Nat.le_of_ble_eq_true rfl) rfl (ct_J1_hash C.glob w) (fun r0 h81 p82 x83 _ => ?_)
      obtain ⟨r80, rfl, w⟩ := p82
      have w := w x83
      change Gd _ _ _ _ (vI r80 :: [vI _, vR [51] _])
      refine g_dup 27 rfl C dJ1_getNode_26 rfl ?_
      refine g_istore 29 rfl C dJ1_getNode_27 (by decide) (rfl : _ = [some (vR [2, 3] _), some (vR [4, 60] _), some (vR [51] _), none, none, some (vI _), some (vI _), none]) ?_
      refine g_iand 30 rfl C dJ1_getNode_29 ?_
      obtain ⟨j84, e85, e86, w⟩ := w
      refine g_aaload 51 31 rfl C dJ1_getNode_30 (by decide) u75 e85 e86 ?_
      refine g_dup 32 rfl C dJ1_getNode_31 rfl ?_
      refine g_astore_n 33 rfl C dJ1_getNode_32 (by decide) (rfl : _ = [some (vR [2, 3] _), some (vR [4, 60] _), some (vR [51] _), some (vR [5, 6, 7] _), none, some (vI _), some (vI _), none]) ?_
      refine g_ifnull 36 148 rfl C dJ1_getNode_33 rfl (fun u87 => ?_) (fun a88 u87 => ?_)
      · have w := w.1 u87
        refine g_sub [none, none, none, none, none, none, none, none] [] rfl rfl ?_
        exact wk_J1_getNode_b148 C Rr N _ w
      · have w := w.2 a88 u87
        refine g_aload_n 37 rfl C dJ1_getNode_36 rfl ?_
        refine g_getI 40 rfl C dJ1_getNode_37 fl_HashMap_168 rfl u87 rfl ?_
        refine g_iload 42 rfl C dJ1_getNode_40 rfl ?_
        refine g_icmp_ne 45 71 rfl C dJ1_getNode_42 rfl (fun u89 => ?_) (fun u89 => ?_)
        · have w := w.1 u89
          refine g_sub [none, some none, none, some none, none, none, some none, none] [] rfl rfl ?_
          exact wk_J1_getNode_b71 C Rr N _ _ _ _ w
        · have w := w.2 u89
          refine g_aload_n 46 rfl C dJ1_getNode_45 rfl ?_
          refine g_getR 49 rfl C dJ1_getNode_46 fl_HashMap_170 rfl u87 rfl ?_
          refine g_dup 50 rfl C dJ1_getNode_49 rfl ?_
          refine g_astore 52 rfl C dJ1_getNode_50 (by decide) (rfl : _ = [some (vR [2, 3] _), some (vR [4, 60] _), some (vR [51] _), some (vR [5, 6, 7] _), none, some (vI _), some (vI _), some (vR [4, 60] _)]) ?_
          refine g_aload_n 53 rfl C dJ1_getNode_52 rfl ?_
          refine g_acmp_eq 56 69 rfl C dJ1_getNode_53 rfl (fun u90 => ?_) (fun u90 => ?_)
          · have w := w.1 u90
            refine g_sub [none, none, none, some none, none, none, none, none] [] rfl rfl ?_
            exact wk_J1_getNode_b69 C Rr N _ _ w
          · have w := w.2 u90
            refine g_aload_n 57 rfl C dJ1_getNode_56 rfl ?_
            refine g_ifnull 60 71 rfl C dJ1_getNode_57 rfl (fun u91 => ?_) (fun a92 u91 => ?_)
            · have w := w.1 u91
              refine g_sub [none, some none, none, some none, none, none, some none, none] [] rfl rfl ?_
              exact wk_J1_getNode_b71 C Rr N _ _ _ _ w
            · have w := w.2 a92 u91
              refine g_aload_n 61 rfl C dJ1_getNode_60 rfl ?_
              refine g_aload 63 rfl C dJ1_getNode_61 rfl ?_
              refine g_callU (As := [vR [4, 60] _]) (T := [4, 60]) (st := []) "java/lang/Integer" 66 rfl C dJ1_getNode_63 q382 q384 dcl_e59518 q388 q389 q15 q390 okn_ad8bbc (by decide) (by decide) (Nat.le_of_ble_eq_true rfl) u91 (fun q => tC rfl q) rfl (ct_J5_equals C.glob w) (fun r0 h95 p96 x97 _ => ?_)
              obtain ⟨r94, rfl, w⟩ := p96
              have w := w x97
              change Gd _ _ _ _ (vI r94 :: [])
              refine g_if_eq 69 71 rfl C dJ1_getNode_66 rfl (fun u98 => ?_) (fun u98 => ?_)
              · have w := w.1 u98
                refine g_sub [none, some none, none, some none, none, none, some none, none] [] rfl rfl ?_
                exact wk_J1_getNode_b71 C Rr N _ _ _ _ w
              · have w := w.2 u98
                refine g_sub [none, none, none, some none, none, none, none, none] [] rfl rfl ?_
                exact wk_J1_getNode_b69 C Rr N _ _ w
theorem ct_J1_getNode {E : Gx} (GE : Glob E) {h : Hp} {x0 : Option Nat} {x1 : Option Nat} {K : Option Nat → Hp → Prop} (w : wp_J1_getNode h x0 x1 K) : Ct E yJ1_getNode cJ1_getNode 8 (Option.some (Jvm.ClassFile.FieldType.object "java/util/HashMap$Node")) 6 [vR [2, 3] x0, vR [4, 60] x1] h (pR [5, 6, 7] K) :=
  Ct.of GE (by decide +kernel) (by simp [lvA, t2]) rfl (fun X hX C Rr N => wk_J1_getNode C Rr N h x0 x1 w)
def wp_J1_get_b18 (K : Option Nat → Hp → Prop) (h : Hp) (s0 : Option Nat) : Prop :=
  (K s0 h)
set_option maxHeartbeats 4000000 in
theorem wk_J1_get_b18 {X : Fx} {K : Option Nat → Hp → Prop} (C : Cx X cJ1_get yJ1_get.cls 3 7) (Rr : Rx X (Option.some (Jvm.ClassFile.FieldType.object "java/lang/Object")) (pR [4, 60] K)) (N : Nm X yJ1_get.name) (h : Hp) (s0 : Option Nat) (w : wp_J1_get_b18 K h s0) : Gd X h 18 [none, none, none] [vR [4, 60] s0] := by
  unfold wp_J1_get_b18 at w
  exact g_areturn [4, 60] C Rr rfl dJ1_get_18 rfl ⟨_, rfl, w⟩
def wp_J1_get_b5 (K : Option Nat → Hp → Prop) (h : Hp) (s0 : Option Nat) : Prop :=
  ((s0 = none → (wp_J1_get_b18 K h none)) ∧ (∀ a20, s0 = some a20 → (wp_J1_get_b18 K h (rf h 2 a20))))
set_option maxHeartbeats 4000000 in
theorem wk_J1_get_b5 {X : Fx} {K : Option Nat → Hp → Prop} (C : Cx X cJ1_get yJ1_get.cls 3 7) (Rr : Rx X (Option.some (Jvm.ClassFile.FieldType.object "java/lang/Object")) (pR [4, 60] K)) (N : Nm X yJ1_get.name) (h : Hp) (s0 : Option Nat) (w : wp_J1_get_b5 K h s0) : Gd X h 5 [none, none, none] [vR [5, 6, 7] s0] := by
  unfold wp_J1_get_b5 at w
  refine g_dup 6 rfl C dJ1_get_5 rfl ?_
  refine g_astore_n 7 rfl C dJ1_get_6 (by decide) (rfl : _ = [none, none, some (vR [5, 6, 7] _)]) ?_
  refine g_ifnonnull 10 14 rfl C dJ1_get_7 rfl (fun a20 u19 => ?_) (fun u19 => ?_)
  · have w := w.2 a20 u19
    refine g_aload_n 15 rfl C dJ1_get_14 rfl ?_
    refine g_getR 18 rfl C dJ1_get_15 fl_HashMap_162 rfl u19 rfl ?_
    refine g_sub [none, none, none] [none] rfl rfl ?_
    exact wk_J1_get_b18 C Rr N _ _ w
  · have w := w.1 u19
    refine g_null 11 rfl C dJ1_get_10 ?_
    refine g_goto 18 C dJ1_get_11 rfl ?_
    refine g_sub [none, none, none] [some [4, 60]] rfl rfl ?_
    exact wk_J1_get_b18 C Rr N _ _ w
def wp_J1_get (h : Hp) (x0 : Option Nat) (x1 : Option Nat) (K : Option Nat → Hp → Prop) : Prop :=
  (∃ a12, x0 = some a12 ∧ (wp_J1_getNode h x0 x1 (fun r15 h16 => Ex h h16 → (wp_J1_get_b5 K h16 r15))))
set_option maxHeartbeats 4000000 in
theorem wk_J1_get {X : Fx} {K : Option Nat → Hp → Prop} (C : Cx X cJ1_get yJ1_get.cls 3 7) (Rr : Rx X (Option.some (Jvm.ClassFile.FieldType.object "java/lang/Object")) (pR [4, 60] K)) (N : Nm X yJ1_get.name) (h : Hp) (x0 : Option Nat) (x1 : Option Nat) (w : wp_J1_get h x0 x1 K) : Gd X h 0 [some (vR [2, 3] x0), some (vR [4, 60] x1), none] [] := by
  unfold wp_J1_get at w
  refine g_aload_n 1 rfl C dJ1_get_0 rfl ?_
  refine g_aload_n 2 rfl C dJ1_get_1 rfl ?_
  obtain ⟨a12, e13, w⟩ := w
  refine g_known 1 rfl e13 (fun k14 => ?_)
  have k14 : kd _ _ ∈ [2, 3] := k14
  simp only [List.mem_cons, List.not_mem_nil, or_false] at k14
  rcases k14 with k14 | k14
  · refine g_callU (As := [vR [4, 60] _]) (T := [2, 3]) (st := []) "java/util/HashMap" 5 rfl C dJ1_get_2 q521 q1284 dcl_88e38d q1285 q513 q11 q514 okn_d1b03f (by decide) (by decide) (Nat.le_of_ble_eq_true rfl) e13 (fun _ => kC rfl k14) rfl (ct_J1_getNode C.glob w) (fun r0 h16 p17 x18 _ => ?_)
    obtain ⟨r15, rfl, w⟩ := p17
    have w := w x18
    change Gd _ _ _ _ (vR [5, 6, 7] r15 :: [])
    refine g_sub [none, none, none] [none] rfl rfl ?_
    exact wk_J1_get_b5 C Rr N _ _ w
  · refine g_callU (As := [vR [4, 60] _]) (T := [2, 3]) (st := []) "java/util/LinkedHashMap" 5 rfl C dJ1_get_2 q521 q1284 dcl_88e38d q1286 q513 q11 q514 okn_d1b03f (by decide) (by decide) (Nat.le_of_ble_eq_true rfl) e13 (fun _ => kC rfl k14) rfl (ct_J1_getNode C.glob w) (fun r0 h16 p17 x18 _ => ?_)
    obtain ⟨r15, rfl, w⟩ := p17
    have w := w x18
    change Gd _ _ _ _ (vR [5, 6, 7] r15 :: [])
    refine g_sub [none, none, none] [none] rfl rfl ?_
    exact wk_J1_get_b5 C Rr N _ _ w
theorem ct_J1_get {E : Gx} (GE : Glob E) {h : Hp} {x0 : Option Nat} {x1 : Option Nat} {K : Option Nat → Hp → Prop} (w : wp_J1_get h x0 x1 K) : Ct E yJ1_get cJ1_get 3 (Option.some (Jvm.ClassFile.FieldType.object "java/lang/Object")) 7 [vR [2, 3] x0, vR [4, 60] x1] h (pR [4, 60] K) :=
  Ct.of GE (by decide +kernel) (by simp [lvA, t2]) rfl (fun X hX C Rr N => wk_J1_get C Rr N h x0 x1 w)
def wp_J1_containsKey_b13 (K : Int32 → Hp → Prop) (h : Hp) (s0 : Int32) : Prop :=
  ((s0 = 0 ∨ s0 = 1) ∧ K s0 h)
set_option maxHeartbeats 4000000 in
theorem wk_J1_containsKey_b13 {X : Fx} {K : Int32 → Hp → Prop} (C : Cx X cJ1_containsKey yJ1_containsKey.cls 2 7) (Rr : Rx X (Option.some Jvm.ClassFile.FieldType.boolean) (pI K)) (N : Nm X yJ1_containsKey.name) (h : Hp) (s0 : Int32) (w : wp_J1_containsKey_b13 K h s0) : Gd X h 13 [none, none] [vI s0] := by
  unfold wp_J1_containsKey_b13 at w
  exact g_zreturn C Rr dJ1_containsKey_13 w.1 ⟨_, rfl, w.2⟩
def wp_J1_containsKey_b5 (K : Int32 → Hp → Prop) (h : Hp) (s0 : Option Nat) : Prop :=
  ((s0 = none → (wp_J1_containsKey_b13 K h 0)) ∧ (∀ a18, s0 = some a18 → (wp_J1_containsKey_b13 K h 1)))
set_option maxHeartbeats 4000000 in
theorem wk_J1_containsKey_b5 {X : Fx} {K : Int32 → Hp → Prop} (C : Cx X cJ1_containsKey yJ1_containsKey.cls 2 7) (Rr : Rx X (Option.some Jvm.ClassFile.FieldType.boolean) (pI K)) (N : Nm X yJ1_containsKey.name) (h : Hp) (s0 : Option Nat) (w : wp_J1_containsKey_b5 K h s0) : Gd X h 5 [none, none] [vR [5, 6, 7] s0] := by
  unfold wp_J1_containsKey_b5 at w
  refine g_ifnull 8 12 rfl C dJ1_containsKey_5 rfl (fun u17 => ?_) (fun a18 u17 => ?_)
  · have w := w.1 u17
    refine g_iconst 13 rfl C dJ1_containsKey_12 0 rfl ?_
    refine g_sub [none, none] [none] rfl rfl ?_
    exact wk_J1_containsKey_b13 C Rr N _ _ w
  · have w := w.2 a18 u17
    refine g_iconst 9 rfl C dJ1_containsKey_8 1 rfl ?_
    refine g_goto 13 C dJ1_containsKey_9 rfl ?_
    refine g_sub [none, none] [none] rfl rfl ?_
    exact wk_J1_containsKey_b13 C Rr N _ _ w
def wp_J1_containsKey (h : Hp) (x0 : Option Nat) (x1 : Option Nat) (K : Int32 → Hp → Prop) : Prop :=
  (∃ a10, x0 = some a10 ∧ (wp_J1_getNode h x0 x1 (fun r13 h14 => Ex h h14 → (wp_J1_containsKey_b5 K h14 r13))))
set_option maxHeartbeats 4000000 in
theorem wk_J1_containsKey {X : Fx} {K : Int32 → Hp → Prop} (C : Cx X cJ1_containsKey yJ1_containsKey.cls 2 7) (Rr : Rx X (Option.some Jvm.ClassFile.FieldType.boolean) (pI K)) (N : Nm X yJ1_containsKey.name) (h : Hp) (x0 : Option Nat) (x1 : Option Nat) (w : wp_J1_containsKey h x0 x1 K) : Gd X h 0 [some (vR [2, 3] x0), some (vR [4, 60] x1)] [] := by
  unfold wp_J1_containsKey at w
  refine g_aload_n 1 rfl C dJ1_containsKey_0 rfl ?_
  refine g_aload_n 2 rfl C dJ1_containsKey_1 rfl ?_
  obtain ⟨a10, e11, w⟩ := w
  refine g_known 1 rfl e11 (fun k12 => ?_)
  have k12 : kd _ _ ∈ [2, 3] := k12
  simp only [List.mem_cons, List.not_mem_nil, or_false] at k12
  rcases k12 with k12 | k12
  · refine g_callU (As := [vR [4, 60] _]) (T := [2, 3]) (st := []) "java/util/HashMap" 5 rfl C dJ1_containsKey_2 q521 q1284 dcl_88e38d q1285 q513 q11 q514 okn_d1b03f (by decide) (by decide) (Nat.le_of_ble_eq_true rfl) e11 (fun _ => kC rfl k12) rfl (ct_J1_getNode C.glob w) (fun r0 h14 p15 x16 _ => ?_)
    obtain ⟨r13, rfl, w⟩ := p15
    have w := w x16
    change Gd _ _ _ _ (vR [5, 6, 7] r13 :: [])
    refine g_sub [none, none] [none] rfl rfl ?_
    exact wk_J1_containsKey_b5 C Rr N _ _ w
  · refine g_callU (As := [vR [4, 60] _]) (T := [2, 3]) (st := []) "java/util/LinkedHashMap" 5 rfl C dJ1_containsKey_2 q521 q1284 dcl_88e38d q1286 q513 q11 q514 okn_d1b03f (by decide) (by decide) (Nat.le_of_ble_eq_true rfl) e11 (fun _ => kC rfl k12) rfl (ct_J1_getNode C.glob w) (fun r0 h14 p15 x16 _ => ?_)
    obtain ⟨r13, rfl, w⟩ := p15
    have w := w x16
    change Gd _ _ _ _ (vR [5, 6, 7] r13 :: [])
    refine g_sub [none, none] [none] rfl rfl ?_
    exact wk_J1_containsKey_b5 C Rr N _ _ w
theorem ct_J1_containsKey {E : Gx} (GE : Glob E) {h : Hp} {x0 : Option Nat} {x1 : Option Nat} {K : Int32 → Hp → Prop} (w : wp_J1_containsKey h x0 x1 K) : Ct E yJ1_containsKey cJ1_containsKey 2 (Option.some Jvm.ClassFile.FieldType.boolean) 7 [vR [2, 3] x0, vR [4, 60] x1] h (pI K) :=
  Ct.of GE (by decide +kernel) (by simp [lvA, t2]) rfl (fun X hX C Rr N => wk_J1_containsKey C Rr N h x0 x1 w)
def wp_J1_size (h : Hp) (x0 : Option Nat) (K : Int32 → Hp → Prop) : Prop :=
  (∃ a3, x0 = some a3 ∧ (K (it h 15 a3) h))
set_option maxHeartbeats 4000000 in
theorem wk_J1_size {X : Fx} {K : Int32 → Hp → Prop} (C : Cx X cJ1_size yJ1_size.cls 1 2) (Rr : Rx X (Option.some Jvm.ClassFile.FieldType.int) (pI K)) (N : Nm X yJ1_size.name) (h : Hp) (x0 : Option Nat) (w : wp_J1_size h x0 K) : Gd X h 0 [some (vR [2, 3] x0)] [] := by
  unfold wp_J1_size at w
  refine g_aload_n 1 rfl C dJ1_size_0 rfl ?_
  obtain ⟨a3, e4, w⟩ := w
  refine g_getI 4 rfl C dJ1_size_1 fl_HashMap_156 rfl e4 rfl ?_
  exact g_ireturn C Rr dJ1_size_4 ⟨_, rfl, w⟩
theorem ct_J1_size {E : Gx} (GE : Glob E) {h : Hp} {x0 : Option Nat} {K : Int32 → Hp → Prop} (w : wp_J1_size h x0 K) : Ct E yJ1_size cJ1_size 1 (Option.some Jvm.ClassFile.FieldType.int) 2 [vR [2, 3] x0] h (pI K) :=
  Ct.of GE (by decide +kernel) (by simp [lvA, t2]) rfl (fun X hX C Rr N => wk_J1_size C Rr N h x0 w)
def wp_J11_init (h : Hp) (x0 : Option Nat) (K : Hp → Prop) : Prop :=
  (∃ a3, x0 = some a3 ∧ (K h))
set_option maxHeartbeats 4000000 in
theorem wk_J11_init {X : Fx} {K : Hp → Prop} (C : Cx X cJ11_init yJ11_init.cls 1 2) (Rr : Rx X (Option.none : Option Jvm.ClassFile.FieldType) (pV K)) (N : Nm X yJ11_init.name) (h : Hp) (x0 : Option Nat) (w : wp_J11_init h x0 K) : Gd X h 0 [some (vR [8, 9, 10] x0)] [] := by
  unfold wp_J11_init at w
  refine g_aload_n 1 rfl C dJ11_init_0 rfl ?_
  obtain ⟨a3, e4, w⟩ := w
  refine g_objInit 4 rfl C dJ11_init_1 q646 q45 q46 (by decide) (Nat.le_of_ble_eq_true rfl) e4 ?_
  exact g_vreturn C Rr dJ11_init_4 ⟨rfl, w⟩
theorem ct_J11_init {E : Gx} (GE : Glob E) {h : Hp} {x0 : Option Nat} {K : Hp → Prop} (w : wp_J11_init h x0 K) : Ct E yJ11_init cJ11_init 1 (Option.none : Option Jvm.ClassFile.FieldType) 2 [vR [8, 9, 10] x0] h (pV K) :=
  Ct.of GE (by decide +kernel) (by simp [lvA, t2]) rfl (fun X hX C Rr N => wk_J11_init C Rr N h x0 w)
def wp_J12_init (h : Hp) (x0 : Option Nat) (K : Hp → Prop) : Prop :=
  (∃ a8, x0 = some a8 ∧ (wp_J11_init h x0 (fun h12 => Ex h h12 → (K h12))))
set_option maxHeartbeats 4000000 in
theorem wk_J12_init {X : Fx} {K : Hp → Prop} (C : Cx X cJ12_init yJ12_init.cls 1 3) (Rr : Rx X (Option.none : Option Jvm.ClassFile.FieldType) (pV K)) (N : Nm X yJ12_init.name) (h : Hp) (x0 : Option Nat) (w : wp_J12_init h x0 K) : Gd X h 0 [some (vR [8, 9, 10] x0)] [] := by
  unfold wp_J12_init at w
  refine g_aload_n 1 rfl C dJ12_init_0 rfl ?_
  obtain ⟨a8, e9, w⟩ := w
  refine g_callI (As := []) (T := [8, 9, 10]) (st := []) 4 rfl C dJ12_init_1 q643 q644 q25 q645 rfl okn_4409d7 (by decide) (by decide) (Nat.le_of_ble_eq_true rfl) e9 rfl (ct_J11_init C.glob w) (fun r0 h12 p13 x14 _ => ?_)
  obtain ⟨rfl, w⟩ := p13
  have w := w x14
  change Gd _ _ _ _ []
  exact g_vreturn C Rr dJ12_init_4 ⟨rfl, w⟩
theorem ct_J12_init {E : Gx} (GE : Glob E) {h : Hp} {x0 : Option Nat} {K : Hp → Prop} (w : wp_J12_init h x0 K) : Ct E yJ12_init cJ12_init 1 (Option.none : Option Jvm.ClassFile.FieldType) 3 [vR [8, 9, 10] x0] h (pV K) :=
  Ct.of GE (by decide +kernel) (by simp [lvA, t2]) rfl (fun X hX C Rr N => wk_J12_init C Rr N h x0 w)
def wp_J22_init (h : Hp) (x0 : Option Nat) (x1 : Option Nat) (K : Hp → Prop) : Prop :=
  (∃ a11, x0 = some a11 ∧ (∀ h13, h13 = wR h 28 a11 x1 → (wp_J12_init h13 x0 (fun h16 => Ex h13 h16 → (K h16)))))
set_option maxHeartbeats 4000000 in
theorem wk_J22_init {X : Fx} {K : Hp → Prop} (C : Cx X cJ22_init yJ22_init.cls 2 4) (Rr : Rx X (Option.none : Option Jvm.ClassFile.FieldType) (pV K)) (N : Nm X yJ22_init.name) (h : Hp) (x0 : Option Nat) (x1 : Option Nat) (w : wp_J22_init h x0 x1 K) : Gd X h 0 [some (vR [9] x0), some (vR [2, 3] x1)] [] := by
  unfold wp_J22_init at w
  refine g_aload_n 1 rfl C dJ22_init_0 rfl ?_
  refine g_aload_n 2 rfl C dJ22_init_1 rfl ?_
  obtain ⟨a11, e12, w⟩ := w
  refine g_putRF 5 rfl C N dJ22_init_2 fl_HashMap_EntrySet_1 ⟨rfl, rfl⟩ rfl rfl e12 rfl ?_
  have w := w _ rfl
  refine g_aload_n 6 rfl C dJ22_init_5 rfl ?_
  refine g_sub [some none, some none] [some [8, 9, 10]] rfl rfl ?_
  refine g_callI (As := []) (T := [8, 9, 10]) (st := []) 9 rfl C dJ22_init_6 q911 q641 q26 q642 rfl okn_08ccbc (by decide) (by decide) (Nat.le_of_ble_eq_true rfl) e12 rfl (ct_J12_init C.glob w) (fun r0 h16 p17 x18 _ => ?_)
  obtain ⟨rfl, w⟩ := p17
  have w := w x18
  change Gd _ _ _ _ []
  exact g_vreturn C Rr dJ22_init_9 ⟨rfl, w⟩
theorem ct_J22_init {E : Gx} (GE : Glob E) {h : Hp} {x0 : Option Nat} {x1 : Option Nat} {K : Hp → Prop} (w : wp_J22_init h x0 x1 K) : Ct E yJ22_init cJ22_init 2 (Option.none : Option Jvm.ClassFile.FieldType) 4 [vR [9] x0, vR [2, 3] x1] h (pV K) :=
  Ct.of GE (by decide +kernel) (by simp [lvA, t2]) rfl (fun X hX C Rr N => wk_J22_init C Rr N h x0 x1 w)
def wp_J1_entrySet_b26 (K : Option Nat → Hp → Prop) (h : Hp) (s0 : Option Nat) : Prop :=
  (K s0 h)
set_option maxHeartbeats 4000000 in
theorem wk_J1_entrySet_b26 {X : Fx} {K : Option Nat → Hp → Prop} (C : Cx X cJ1_entrySet yJ1_entrySet.cls 2 5) (Rr : Rx X (Option.some (Jvm.ClassFile.FieldType.object "java/util/Set")) (pR [8, 9, 10] K)) (N : Nm X yJ1_entrySet.name) (h : Hp) (s0 : Option Nat) (w : wp_J1_entrySet_b26 K h s0) : Gd X h 26 [none, none] [vR [9, 10] s0] := by
  unfold wp_J1_entrySet_b26 at w
  exact g_areturn [8, 9, 10] C Rr rfl dJ1_entrySet_26 rfl ⟨_, rfl, w⟩
def wp_J1_entrySet (h : Hp) (x0 : Option Nat) (K : Option Nat → Hp → Prop) : Prop :=
  (∃ a19, x0 = some a19 ∧ (((rf h 14 a19) = none → (Rm h 1 1 ∧ ∀ a23, kd h a23 = 0 → ∀ h24, h24 = nw h a23 9 0 → (wp_J22_init h24 (some a23) x0 (fun h29 => Ex h24 h29 → (∀ h32, h32 = wR h29 14 a19 (some a23) → (wp_J1_entrySet_b26 K h32 (some a23))))))) ∧ (∀ a22, (rf h 14 a19) = some a22 → (wp_J1_entrySet_b26 K h (rf h 14 a19)))))
set_option maxHeartbeats 4000000 in
theorem wk_J1_entrySet {X : Fx} {K : Option Nat → Hp → Prop} (C : Cx X cJ1_entrySet yJ1_entrySet.cls 2 5) (Rr : Rx X (Option.some (Jvm.ClassFile.FieldType.object "java/util/Set")) (pR [8, 9, 10] K)) (N : Nm X yJ1_entrySet.name) (h : Hp) (x0 : Option Nat) (w : wp_J1_entrySet h x0 K) : Gd X h 0 [some (vR [2, 3] x0), none] [] := by
  unfold wp_J1_entrySet at w
  refine g_aload_n 1 rfl C dJ1_entrySet_0 rfl ?_
  obtain ⟨a19, e20, w⟩ := w
  refine g_getR 4 rfl C dJ1_entrySet_1 fl_HashMap_266 rfl e20 rfl ?_
  refine g_dup 5 rfl C dJ1_entrySet_4 rfl ?_
  refine g_astore_n 6 rfl C dJ1_entrySet_5 (by decide) (rfl : _ = [some (vR [2, 3] _), some (vR [9, 10] _)]) ?_
  refine g_ifnonnull 9 25 rfl C dJ1_entrySet_6 rfl (fun a22 u21 => ?_) (fun u21 => ?_)
  · have w := w.2 a22 u21
    refine g_aload_n 26 rfl C dJ1_entrySet_25 rfl ?_
    refine g_sub [none, none] [none] rfl rfl ?_
    exact wk_J1_entrySet_b26 C Rr N _ _ w
  · have w := w.1 u21
    refine g_aload_n 10 rfl C dJ1_entrySet_9 rfl ?_
    obtain ⟨r25, w⟩ := w
    refine g_new 9 13 rfl C dJ1_entrySet_10 rfl q906 q907 q37 r25 (fun a23 z26 => ?_)
    have w := w a23 z26 _ rfl
    refine g_dup 14 rfl C dJ1_entrySet_13 rfl ?_
    refine g_aload_n 15 rfl C dJ1_entrySet_14 rfl ?_
    refine g_callI (As := [vR [2, 3] _]) (T := [9]) (st := [vR [9] _, vR [2, 3] _]) 18 rfl C dJ1_entrySet_15 q908 q909 q37 q910 rfl okn_55f277 (by decide) (by decide) (Nat.le_of_ble_eq_true rfl) rfl rfl (ct_J22_init C.glob w) (fun r0 h29 p30 x31 _ => ?_)
    obtain ⟨rfl, w⟩ := p30
    have w := w x31
    change Gd _ _ _ _ [vR [9] _, vR [2, 3] _]
    refine g_dup_x1 19 rfl C dJ1_entrySet_18 rfl rfl ?_
    refine g_putR 22 rfl C dJ1_entrySet_19 fl_HashMap_266 rfl rfl rfl e20 rfl ?_
    have w := w _ rfl
    refine g_goto 26 C dJ1_entrySet_22 rfl ?_
    refine g_sub [none, none] [some [9, 10]] rfl rfl ?_
    exact wk_J1_entrySet_b26 C Rr N _ _ w
theorem ct_J1_entrySet {E : Gx} (GE : Glob E) {h : Hp} {x0 : Option Nat} {K : Option Nat → Hp → Prop} (w : wp_J1_entrySet h x0 K) : Ct E yJ1_entrySet cJ1_entrySet 2 (Option.some (Jvm.ClassFile.FieldType.object "java/util/Set")) 5 [vR [2, 3] x0] h (pR [8, 9, 10] K) :=
  Ct.of GE (by decide +kernel) (by simp [lvA, t2]) rfl (fun X hX C Rr N => wk_J1_entrySet C Rr N h x0 w)
def wp_J15_init_b78 (K : Hp → Prop) (h : Hp)  : Prop :=
  (K h)
set_option maxHeartbeats 4000000 in
theorem wk_J15_init_b78 {X : Fx} {K : Hp → Prop} (C : Cx X cJ15_init yJ15_init.cls 3 2) (Rr : Rx X (Option.none : Option Jvm.ClassFile.FieldType) (pV K)) (N : Nm X yJ15_init.name) (h : Hp)  (w : wp_J15_init_b78 K h ) : Gd X h 78 [none, none, none] [] := by
  unfold wp_J15_init_b78 at w
  exact g_vreturn C Rr dJ15_init_78 ⟨rfl, w⟩
def wp_J15_init_b48 (K : Hp → Prop) : Nat → Hp → Option Nat → Option Nat → Prop
  | 0 => fun _ _ _ => False
  | m9 + 1 => fun h l0 l2 =>
    (∃ a48, l0 = some a48 ∧ (∃ a50, l2 = some a50 ∧ (ln h a50 < 2 ^ 26 → (((nI (ln h a50)) ≤ (it h 34 a48) → (wp_J15_init_b78 K h)) ∧ (¬ (nI (ln h a50)) ≤ (it h 34 a48) → (∀ h54, h54 = wI h 34 a48 ((it h 34 a48) + 1) → (∃ j55, (it h 34 a48) = nI j55 ∧ j55 < ln h54 a50 ∧ (∀ h58, h58 = wR h54 31 a48 (rf h54 (100 + j55) a50) → (((rf h54 (100 + j55) a50) = none → (wp_J15_init_b48 K m9 h58 l0 l2)) ∧ (∀ a60, (rf h54 (100 + j55) a50) = some a60 → (wp_J15_init_b78 K h58)))))))))))
set_option maxHeartbeats 4000000 in
theorem wk_J15_init_b48 {X : Fx} {K : Hp → Prop} (C : Cx X cJ15_init yJ15_init.cls 3 2) (Rr : Rx X (Option.none : Option Jvm.ClassFile.FieldType) (pV K)) (N : Nm X yJ15_init.name) : ∀ (n : Nat) (h : Hp) (l0 : Option Nat) (l2 : Option Nat), wp_J15_init_b48 K n h l0 l2 → Gd X h 48 [some (vR [11, 12] l0), none, some (vR [51] l2)] [] := by
  intro n
  induction n with
  | zero => intro h l0 l2 w; exact w.elim
  | succ n ih =>
    intro h l0 l2 w
    unfold wp_J15_init_b48 at w
    refine g_aload_n 49 rfl C dJ15_init_48 rfl ?_
    obtain ⟨a48, e49, w⟩ := w
    refine g_getI 52 rfl C dJ15_init_49 fl_HashMap_HashIterator_33 rfl e49 rfl ?_
    refine g_aload_n 53 rfl C dJ15_init_52 rfl ?_
    obtain ⟨a50, e51, w⟩ := w
    refine g_alen 54 rfl C dJ15_init_53 e51 rfl (fun u52 => ?_)
    have w := w u52
    refine g_icmp_ge 57 78 rfl C dJ15_init_54 rfl (fun u53 => ?_) (fun u53 => ?_)
    · have w := w.1 u53
      refine g_sub [none, none, none] [] rfl rfl ?_
      exact wk_J15_init_b78 C Rr N _ w
    · have w := w.2 u53
      refine g_aload_n 58 rfl C dJ15_init_57 rfl ?_
      refine g_aload_n 59 rfl C dJ15_init_58 rfl ?_
      refine g_aload_n 60 rfl C dJ15_init_59 rfl ?_
      refine g_dup 61 rfl C dJ15_init_60 rfl ?_
      refine g_getI 64 rfl C dJ15_init_61 fl_HashMap_HashIterator_33 rfl e49 rfl ?_
      refine g_dup_x1 65 rfl C dJ15_init_64 rfl rfl ?_
      refine g_iconst 66 rfl C dJ15_init_65 1 rfl ?_
      refine g_iadd 67 rfl C dJ15_init_66 ?_
      refine g_putI 70 rfl C dJ15_init_67 fl_HashMap_HashIterator_33 rfl rfl e49 rfl ?_
      have w := w _ rfl
      obtain ⟨j55, e56, e57, w⟩ := w
      refine g_aaload 51 71 rfl C dJ15_init_70 (by decide) e51 e56 e57 ?_
      refine g_dup_x1 72 rfl C dJ15_init_71 rfl rfl ?_
      refine g_putR 75 rfl C dJ15_init_72 fl_HashMap_HashIterator_26 rfl rfl rfl e49 rfl ?_
      have w := w _ rfl
      refine g_ifnull 78 48 rfl C dJ15_init_75 rfl (fun u59 => ?_) (fun a60 u59 => ?_)
      · have w := w.1 u59
        refine g_sub [some none, none, some none] [] rfl rfl ?_
        exact ih _ _ _ w
      · have w := w.2 a60 u59
        refine g_sub [none, none, none] [] rfl rfl ?_
        exact wk_J15_init_b78 C Rr N _ w
def wp_J15_init (h : Hp) (x0 : Option Nat) (x1 : Option Nat) (K : Hp → Prop) : Prop :=
  (∃ a61, x0 = some a61 ∧ (∀ h63, h63 = wR h 35 a61 x1 → (∃ a64, x1 = some a64 ∧ (∀ h66, h66 = wI h63 33 a61 (it h63 16 a64) → (∀ h67, h67 = wR h66 31 a61 none → (∀ h68, h68 = wR h67 32 a61 none → (∀ h69, h69 = wI h68 34 a61 0 → (((rf h66 13 a64) = none → (wp_J15_init_b78 K h69)) ∧ (∀ a71, (rf h66 13 a64) = some a71 → (((it h69 15 a64) ≤ 0 → (wp_J15_init_b78 K h69)) ∧ (¬ (it h69 15 a64) ≤ 0 → (∃ n, wp_J15_init_b48 K n h69 x0 (rf h66 13 a64)))))))))))))
set_option maxHeartbeats 4000000 in
theorem wk_J15_init {X : Fx} {K : Hp → Prop} (C : Cx X cJ15_init yJ15_init.cls 3 2) (Rr : Rx X (Option.none : Option Jvm.ClassFile.FieldType) (pV K)) (N : Nm X yJ15_init.name) (h : Hp) (x0 : Option Nat) (x1 : Option Nat) (w : wp_J15_init h x0 x1 K) : Gd X h 0 [some (vR [11, 12] x0), some (vR [2, 3] x1), none] [] := by
  unfold wp_J15_init at w
  refine g_aload_n 1 rfl C dJ15_init_0 rfl ?_
  refine g_aload_n 2 rfl C dJ15_init_1 rfl ?_
  obtain ⟨a61, e62, w⟩ := w
  refine g_putRF 5 rfl C N dJ15_init_2 fl_HashMap_HashIterator_1 ⟨rfl, rfl⟩ rfl rfl e62 rfl ?_
  have w := w _ rfl
  refine g_aload_n 6 rfl C dJ15_init_5 rfl ?_
  refine g_objInit 9 rfl C dJ15_init_6 q684 q45 q46 (by decide) (Nat.le_of_ble_eq_true rfl) e62 ?_
  refine g_aload_n 10 rfl C dJ15_init_9 rfl ?_
  refine g_aload_n 11 rfl C dJ15_init_10 rfl ?_
  obtain ⟨a64, e65, w⟩ := w
  refine g_getI 14 rfl C dJ15_init_11 fl_HashMap_HashIterator_13 rfl e65 rfl ?_
  refine g_putI 17 rfl C dJ15_init_14 fl_HashMap_HashIterator_19 rfl rfl e62 rfl ?_
  have w := w _ rfl
  refine g_aload_n 18 rfl C dJ15_init_17 rfl ?_
  refine g_getR 21 rfl C dJ15_init_18 fl_HashMap_HashIterator_22 rfl e65 rfl ?_
  refine g_astore_n 22 rfl C dJ15_init_21 (by decide) (rfl : _ = [some (vR [11, 12] _), some (vR [2, 3] _), some (vR [51] _)]) ?_
  refine g_aload_n 23 rfl C dJ15_init_22 rfl ?_
  refine g_aload_n 24 rfl C dJ15_init_23 rfl ?_
  refine g_null 25 rfl C dJ15_init_24 ?_
  refine g_dup_x1 26 rfl C dJ15_init_25 rfl rfl ?_
  refine g_putR 29 rfl C dJ15_init_26 fl_HashMap_HashIterator_26 rfl rfl rfl e62 rfl ?_
  have w := w _ rfl
  refine g_putR 32 rfl C dJ15_init_29 fl_HashMap_HashIterator_30 rfl rfl rfl e62 rfl ?_
  have w := w _ rfl
  refine g_aload_n 33 rfl C dJ15_init_32 rfl ?_
  refine g_iconst 34 rfl C dJ15_init_33 0 rfl ?_
  refine g_putI 37 rfl C dJ15_init_34 fl_HashMap_HashIterator_33 rfl rfl e62 rfl ?_
  have w := w _ rfl
  refine g_aload_n 38 rfl C dJ15_init_37 rfl ?_
  refine g_ifnull 41 78 rfl C dJ15_init_38 rfl (fun u70 => ?_) (fun a71 u70 => ?_)
  · have w := w.1 u70
    refine g_sub [none, none, none] [] rfl rfl ?_
    exact wk_J15_init_b78 C Rr N _ w
  · have w := w.2 a71 u70
    refine g_aload_n 42 rfl C dJ15_init_41 rfl ?_
    refine g_getI 45 rfl C dJ15_init_42 fl_HashMap_HashIterator_36 rfl e65 rfl ?_
    refine g_if_le 48 78 rfl C dJ15_init_45 rfl (fun u72 => ?_) (fun u72 => ?_)
    · have w := w.1 u72
      refine g_sub [none, none, none] [] rfl rfl ?_
      exact wk_J15_init_b78 C Rr N _ w
    · have w := w.2 u72
      refine g_sub [some none, none, some none] [] rfl rfl ?_
      obtain ⟨n9, w⟩ := w
      exact wk_J15_init_b48 C Rr N n9 _ _ _ w
theorem ct_J15_init {E : Gx} (GE : Glob E) {h : Hp} {x0 : Option Nat} {x1 : Option Nat} {K : Hp → Prop} (w : wp_J15_init h x0 x1 K) : Ct E yJ15_init cJ15_init 3 (Option.none : Option Jvm.ClassFile.FieldType) 2 [vR [11, 12] x0, vR [2, 3] x1] h (pV K) :=
  Ct.of GE (by decide +kernel) (by simp [lvA, t2]) rfl (fun X hX C Rr N => wk_J15_init C Rr N h x0 x1 w)
def wp_J17_init (h : Hp) (x0 : Option Nat) (x1 : Option Nat) (K : Hp → Prop) : Prop :=
  (∃ a8, x0 = some a8 ∧ (wp_J15_init h x0 x1 (fun h12 => Ex h h12 → (K h12))))
set_option maxHeartbeats 4000000 in
theorem wk_J17_init {X : Fx} {K : Hp → Prop} (C : Cx X cJ17_init yJ17_init.cls 2 3) (Rr : Rx X (Option.none : Option Jvm.ClassFile.FieldType) (pV K)) (N : Nm X yJ17_init.name) (h : Hp) (x0 : Option Nat) (x1 : Option Nat) (w : wp_J17_init h x0 x1 K) : Gd X h 0 [some (vR [11] x0), some (vR [2, 3] x1)] [] := by
  unfold wp_J17_init at w
  refine g_aload_n 1 rfl C dJ17_init_0 rfl ?_
  refine g_aload_n 2 rfl C dJ17_init_1 rfl ?_
  obtain ⟨a8, e9, w⟩ := w
  refine g_sub [some none, some none] [none, some [11, 12]] rfl rfl ?_
  refine g_callI (As := [vR [2, 3] _]) (T := [11, 12]) (st := []) 5 rfl C dJ17_init_2 q712 q682 q29 q683 rfl okn_1af03d (by decide) (by decide) (Nat.le_of_ble_eq_true rfl) e9 rfl (ct_J15_init C.glob w) (fun r0 h12 p13 x14 _ => ?_)
  obtain ⟨rfl, w⟩ := p13
  have w := w x14
  change Gd _ _ _ _ []
  exact g_vreturn C Rr dJ17_init_5 ⟨rfl, w⟩
theorem ct_J17_init {E : Gx} (GE : Glob E) {h : Hp} {x0 : Option Nat} {x1 : Option Nat} {K : Hp → Prop} (w : wp_J17_init h x0 x1 K) : Ct E yJ17_init cJ17_init 2 (Option.none : Option Jvm.ClassFile.FieldType) 3 [vR [11] x0, vR [2, 3] x1] h (pV K) :=
  Ct.of GE (by decide +kernel) (by simp [lvA, t2]) rfl (fun X hX C Rr N => wk_J17_init C Rr N h x0 x1 w)
def wp_J13_iterator (h : Hp) (x0 : Option Nat) (K : Option Nat → Hp → Prop) : Prop :=
  (Rm h 1 5 ∧ ∀ a14, kd h a14 = 0 → ∀ h15, h15 = nw h a14 11 0 → (∃ a18, x0 = some a18 ∧ (wp_J17_init h15 (some a14) (rf h15 27 a18) (fun h22 => Ex h15 h22 → (K (some a14) h22)))))
set_option maxHeartbeats 4000000 in
theorem wk_J13_iterator {X : Fx} {K : Option Nat → Hp → Prop} (C : Cx X cJ13_iterator yJ13_iterator.cls 1 4) (Rr : Rx X (Option.some (Jvm.ClassFile.FieldType.object "java/util/Iterator")) (pR [11, 12, 13] K)) (N : Nm X yJ13_iterator.name) (h : Hp) (x0 : Option Nat) (w : wp_J13_iterator h x0 K) : Gd X h 0 [some (vR [8] x0)] [] := by
  unfold wp_J13_iterator at w
  obtain ⟨r16, w⟩ := w
  refine g_new 11 3 rfl C dJ13_iterator_0 rfl q707 q708 q31 r16 (fun a14 z17 => ?_)
  have w := w a14 z17 _ rfl
  refine g_dup 4 rfl C dJ13_iterator_3 rfl ?_
  refine g_aload_n 5 rfl C dJ13_iterator_4 rfl ?_
  obtain ⟨a18, e19, w⟩ := w
  refine g_getR 8 rfl C dJ13_iterator_5 fl_HashMap_KeySet_1 rfl e19 rfl ?_
  refine g_callI (As := [vR [2, 3] _]) (T := [11]) (st := [vR [11] _]) 11 rfl C dJ13_iterator_8 q709 q710 q31 q711 rfl okn_be9647 (by decide) (by decide) (Nat.le_of_ble_eq_true rfl) rfl rfl (ct_J17_init C.glob w) (fun r0 h22 p23 x24 _ => ?_)
  obtain ⟨rfl, w⟩ := p23
  have w := w x24
  change Gd _ _ _ _ [vR [11] _]
  exact g_areturn [11, 12, 13] C Rr rfl dJ13_iterator_11 rfl ⟨_, rfl, w⟩
theorem ct_J13_iterator {E : Gx} (GE : Glob E) {h : Hp} {x0 : Option Nat} {K : Option Nat → Hp → Prop} (w : wp_J13_iterator h x0 K) : Ct E yJ13_iterator cJ13_iterator 1 (Option.some (Jvm.ClassFile.FieldType.object "java/util/Iterator")) 4 [vR [8] x0] h (pR [11, 12, 13] K) :=
  Ct.of GE (by decide +kernel) (by simp [lvA, t2]) rfl (fun X hX C Rr N => wk_J13_iterator C Rr N h x0 w)
def wp_J15_hasNext_b12 (K : Int32 → Hp → Prop) (h : Hp) (s0 : Int32) : Prop :=
  ((s0 = 0 ∨ s0 = 1) ∧ K s0 h)
set_option maxHeartbeats 4000000 in
theorem wk_J15_hasNext_b12 {X : Fx} {K : Int32 → Hp → Prop} (C : Cx X cJ15_hasNext yJ15_hasNext.cls 1 2) (Rr : Rx X (Option.some Jvm.ClassFile.FieldType.boolean) (pI K)) (N : Nm X yJ15_hasNext.name) (h : Hp) (s0 : Int32) (w : wp_J15_hasNext_b12 K h s0) : Gd X h 12 [none] [vI s0] := by
  unfold wp_J15_hasNext_b12 at w
  exact g_zreturn C Rr dJ15_hasNext_12 w.1 ⟨_, rfl, w.2⟩
def wp_J15_hasNext (h : Hp) (x0 : Option Nat) (K : Int32 → Hp → Prop) : Prop :=
  (∃ a5, x0 = some a5 ∧ (((rf h 31 a5) = none → (wp_J15_hasNext_b12 K h 0)) ∧ (∀ a8, (rf h 31 a5) = some a8 → (wp_J15_hasNext_b12 K h 1))))
set_option maxHeartbeats 4000000 in
theorem wk_J15_hasNext {X : Fx} {K : Int32 → Hp → Prop} (C : Cx X cJ15_hasNext yJ15_hasNext.cls 1 2) (Rr : Rx X (Option.some Jvm.ClassFile.FieldType.boolean) (pI K)) (N : Nm X yJ15_hasNext.name) (h : Hp) (x0 : Option Nat) (w : wp_J15_hasNext h x0 K) : Gd X h 0 [some (vR [11, 12] x0)] [] := by
  unfold wp_J15_hasNext at w
  refine g_aload_n 1 rfl C dJ15_hasNext_0 rfl ?_
  obtain ⟨a5, e6, w⟩ := w
  refine g_getR 4 rfl C dJ15_hasNext_1 fl_HashMap_HashIterator_26 rfl e6 rfl ?_
  refine g_ifnull 7 11 rfl C dJ15_hasNext_4 rfl (fun u7 => ?_) (fun a8 u7 => ?_)
  · have w := w.1 u7
    refine g_iconst 12 rfl C dJ15_hasNext_11 0 rfl ?_
    refine g_sub [none] [none] rfl rfl ?_
    exact wk_J15_hasNext_b12 C Rr N _ _ w
  · have w := w.2 a8 u7
    refine g_iconst 8 rfl C dJ15_hasNext_7 1 rfl ?_
    refine g_goto 12 C dJ15_hasNext_8 rfl ?_
    refine g_sub [none] [none] rfl rfl ?_
    exact wk_J15_hasNext_b12 C Rr N _ _ w
theorem ct_J15_hasNext {E : Gx} (GE : Glob E) {h : Hp} {x0 : Option Nat} {K : Int32 → Hp → Prop} (w : wp_J15_hasNext h x0 K) : Ct E yJ15_hasNext cJ15_hasNext 1 (Option.some Jvm.ClassFile.FieldType.boolean) 2 [vR [11, 12] x0] h (pI K) :=
  Ct.of GE (by decide +kernel) (by simp [lvA, t2]) rfl (fun X hX C Rr N => wk_J15_hasNext C Rr N h x0 w)
def wp_J15_nextNode_b98 (K : Option Nat → Hp → Prop) (h : Hp) (l2 : Option Nat) : Prop :=
  (K l2 h)
set_option maxHeartbeats 4000000 in
theorem wk_J15_nextNode_b98 {X : Fx} {K : Option Nat → Hp → Prop} (C : Cx X cJ15_nextNode yJ15_nextNode.cls 3 2) (Rr : Rx X (Option.some (Jvm.ClassFile.FieldType.object "java/util/HashMap$Node")) (pR [5, 6, 7] K)) (N : Nm X yJ15_nextNode.name) (h : Hp) (l2 : Option Nat) (w : wp_J15_nextNode_b98 K h l2) : Gd X h 98 [none, none, some (vR [5, 6, 7] l2)] [] := by
  unfold wp_J15_nextNode_b98 at w
  refine g_aload_n 99 rfl C dJ15_nextNode_98 rfl ?_
  exact g_areturn [5, 6, 7] C Rr rfl dJ15_nextNode_99 rfl ⟨_, rfl, w⟩
def wp_J15_nextNode_b68 (K : Option Nat → Hp → Prop) : Nat → Hp → Option Nat → Option Nat → Option Nat → Prop
  | 0 => fun _ _ _ _ => False
  | m9 + 1 => fun h l0 l1 l2 =>
    (∃ a64, l0 = some a64 ∧ (∃ a66, l1 = some a66 ∧ (ln h a66 < 2 ^ 26 → (((nI (ln h a66)) ≤ (it h 34 a64) → (wp_J15_nextNode_b98 K h l2)) ∧ (¬ (nI (ln h a66)) ≤ (it h 34 a64) → (∀ h70, h70 = wI h 34 a64 ((it h 34 a64) + 1) → (∃ j71, (it h 34 a64) = nI j71 ∧ j71 < ln h70 a66 ∧ (∀ h74, h74 = wR h70 31 a64 (rf h70 (100 + j71) a66) → (((rf h70 (100 + j71) a66) = none → (wp_J15_nextNode_b68 K m9 h74 l0 l1 l2)) ∧ (∀ a76, (rf h70 (100 + j71) a66) = some a76 → (wp_J15_nextNode_b98 K h74 l2)))))))))))
set_option maxHeartbeats 4000000 in
theorem wk_J15_nextNode_b68 {X : Fx} {K : Option Nat → Hp → Prop} (C : Cx X cJ15_nextNode yJ15_nextNode.cls 3 2) (Rr : Rx X (Option.some (Jvm.ClassFile.FieldType.object "java/util/HashMap$Node")) (pR [5, 6, 7] K)) (N : Nm X yJ15_nextNode.name) : ∀ (n : Nat) (h : Hp) (l0 : Option Nat) (l1 : Option Nat) (l2 : Option Nat), wp_J15_nextNode_b68 K n h l0 l1 l2 → Gd X h 68 [some (vR [11, 12] l0), some (vR [51] l1), some (vR [5, 6, 7] l2)] [] := by
  intro n
  induction n with
  | zero => intro h l0 l1 l2 w; exact w.elim
  | succ n ih =>
    intro h l0 l1 l2 w
    unfold wp_J15_nextNode_b68 at w
    refine g_aload_n 69 rfl C dJ15_nextNode_68 rfl ?_
    obtain ⟨a64, e65, w⟩ := w
    refine g_getI 72 rfl C dJ15_nextNode_69 fl_HashMap_HashIterator_33 rfl e65 rfl ?_
    refine g_aload_n 73 rfl C dJ15_nextNode_72 rfl ?_
    obtain ⟨a66, e67, w⟩ := w
    refine g_alen 74 rfl C dJ15_nextNode_73 e67 rfl (fun u68 => ?_)
    have w := w u68
    refine g_icmp_ge 77 98 rfl C dJ15_nextNode_74 rfl (fun u69 => ?_) (fun u69 => ?_)
    · have w := w.1 u69
      refine g_sub [none, none, some none] [] rfl rfl ?_
      exact wk_J15_nextNode_b98 C Rr N _ _ w
    · have w := w.2 u69
      refine g_aload_n 78 rfl C dJ15_nextNode_77 rfl ?_
      refine g_aload_n 79 rfl C dJ15_nextNode_78 rfl ?_
      refine g_aload_n 80 rfl C dJ15_nextNode_79 rfl ?_
      refine g_dup 81 rfl C dJ15_nextNode_80 rfl ?_
      refine g_getI 84 rfl C dJ15_nextNode_81 fl_HashMap_HashIterator_33 rfl e65 rfl ?_
      refine g_dup_x1 85 rfl C dJ15_nextNode_84 rfl rfl ?_
      refine g_iconst 86 rfl C dJ15_nextNode_85 1 rfl ?_
      refine g_iadd 87 rfl C dJ15_nextNode_86 ?_
      refine g_putI 90 rfl C dJ15_nextNode_87 fl_HashMap_HashIterator_33 rfl rfl e65 rfl ?_
      have w := w _ rfl
      obtain ⟨j71, e72, e73, w⟩ := w
      refine g_aaload 51 91 rfl C dJ15_nextNode_90 (by decide) e67 e72 e73 ?_
      refine g_dup_x1 92 rfl C dJ15_nextNode_91 rfl rfl ?_
      refine g_putR 95 rfl C dJ15_nextNode_92 fl_HashMap_HashIterator_26 rfl rfl rfl e65 rfl ?_
      have w := w _ rfl
      refine g_ifnull 98 68 rfl C dJ15_nextNode_95 rfl (fun u75 => ?_) (fun a76 u75 => ?_)
      · have w := w.1 u75
        refine g_sub [some none, some none, some none] [] rfl rfl ?_
        exact ih _ _ _ _ w
      · have w := w.2 a76 u75
        refine g_sub [none, none, some none] [] rfl rfl ?_
        exact wk_J15_nextNode_b98 C Rr N _ _ w
def wp_J15_nextNode (h : Hp) (x0 : Option Nat) (K : Option Nat → Hp → Prop) : Prop :=
  (∃ a49, x0 = some a49 ∧ (∃ a51, (rf h 35 a49) = some a51 ∧ (((it h 16 a51) = (it h 33 a49) → (((rf h 31 a49) = none → False) ∧ (∀ a55, (rf h 31 a49) = some a55 → (∀ h56, h56 = wR h 32 a49 (rf h 31 a49) → (∀ h57, h57 = wR h56 31 a49 (rf h56 3 a55) → (((rf h56 3 a55) = none → (∃ a60, (rf h57 35 a49) = some a60 ∧ (((rf h57 13 a60) = none → (wp_J15_nextNode_b98 K h57 (rf h 31 a49))) ∧ (∀ a63, (rf h57 13 a60) = some a63 → (∃ n, wp_J15_nextNode_b68 K n h57 x0 (rf h57 13 a60) (rf h 31 a49)))))) ∧ (∀ a59, (rf h56 3 a55) = some a59 → (wp_J15_nextNode_b98 K h57 (rf h 31 a49))))))))) ∧ (¬ (it h 16 a51) = (it h 33 a49) → False))))
set_option maxHeartbeats 4000000 in
theorem wk_J15_nextNode {X : Fx} {K : Option Nat → Hp → Prop} (C : Cx X cJ15_nextNode yJ15_nextNode.cls 3 2) (Rr : Rx X (Option.some (Jvm.ClassFile.FieldType.object "java/util/HashMap$Node")) (pR [5, 6, 7] K)) (N : Nm X yJ15_nextNode.name) (h : Hp) (x0 : Option Nat) (w : wp_J15_nextNode h x0 K) : Gd X h 0 [some (vR [11, 12] x0), none, none] [] := by
  unfold wp_J15_nextNode at w
  refine g_aload_n 1 rfl C dJ15_nextNode_0 rfl ?_
  obtain ⟨a49, e50, w⟩ := w
  refine g_getR 4 rfl C dJ15_nextNode_1 fl_HashMap_HashIterator_26 rfl e50 rfl ?_
  refine g_astore_n 5 rfl C dJ15_nextNode_4 (by decide) (rfl : _ = [some (vR [11, 12] _), none, some (vR [5, 6, 7] _)]) ?_
  refine g_aload_n 6 rfl C dJ15_nextNode_5 rfl ?_
  refine g_getR 9 rfl C dJ15_nextNode_6 fl_HashMap_HashIterator_1 rfl e50 rfl ?_
  obtain ⟨a51, e52, w⟩ := w
  refine g_getI 12 rfl C dJ15_nextNode_9 fl_HashMap_HashIterator_13 rfl e52 rfl ?_
  refine g_aload_n 13 rfl C dJ15_nextNode_12 rfl ?_
  refine g_getI 16 rfl C dJ15_nextNode_13 fl_HashMap_HashIterator_19 rfl e50 rfl ?_
  refine g_icmp_eq 19 27 rfl C dJ15_nextNode_16 rfl (fun u53 => ?_) (fun u53 => ?_)
  · have w := w.1 u53
    refine g_aload_n 28 rfl C dJ15_nextNode_27 rfl ?_
    refine g_ifnonnull 31 39 rfl C dJ15_nextNode_28 rfl (fun a55 u54 => ?_) (fun u54 => ?_)
    · have w := w.2 a55 u54
      refine g_aload_n 40 rfl C dJ15_nextNode_39 rfl ?_
      refine g_aload_n 41 rfl C dJ15_nextNode_40 rfl ?_
      refine g_aload_n 42 rfl C dJ15_nextNode_41 rfl ?_
      refine g_dup_x1 43 rfl C dJ15_nextNode_42 rfl rfl ?_
      refine g_putR 46 rfl C dJ15_nextNode_43 fl_HashMap_HashIterator_30 rfl rfl rfl e50 rfl ?_
      have w := w _ rfl
      refine g_getR 49 rfl C dJ15_nextNode_46 fl_HashMap_HashIterator_45 rfl u54 rfl ?_
      refine g_dup_x1 50 rfl C dJ15_nextNode_49 rfl rfl ?_
      refine g_putR 53 rfl C dJ15_nextNode_50 fl_HashMap_HashIterator_26 rfl rfl rfl e50 rfl ?_
      have w := w _ rfl
      refine g_ifnonnull 56 98 rfl C dJ15_nextNode_53 rfl (fun a59 u58 => ?_) (fun u58 => ?_)
      · have w := w.2 a59 u58
        refine g_sub [none, none, some none] [] rfl rfl ?_
        exact wk_J15_nextNode_b98 C Rr N _ _ w
      · have w := w.1 u58
        refine g_aload_n 57 rfl C dJ15_nextNode_56 rfl ?_
        refine g_getR 60 rfl C dJ15_nextNode_57 fl_HashMap_HashIterator_1 rfl e50 rfl ?_
        obtain ⟨a60, e61, w⟩ := w
        refine g_getR 63 rfl C dJ15_nextNode_60 fl_HashMap_HashIterator_22 rfl e61 rfl ?_
        refine g_dup 64 rfl C dJ15_nextNode_63 rfl ?_
        refine g_astore_n 65 rfl C dJ15_nextNode_64 (by decide) (rfl : _ = [some (vR [11, 12] _), some (vR [51] _), some (vR [5, 6, 7] _)]) ?_
        refine g_ifnull 68 98 rfl C dJ15_nextNode_65 rfl (fun u62 => ?_) (fun a63 u62 => ?_)
        · have w := w.1 u62
          refine g_sub [none, none, some none] [] rfl rfl ?_
          exact wk_J15_nextNode_b98 C Rr N _ _ w
        · have w := w.2 a63 u62
          refine g_sub [some none, some none, some none] [] rfl rfl ?_
          obtain ⟨n9, w⟩ := w
          exact wk_J15_nextNode_b68 C Rr N n9 _ _ _ _ w
    · have w := w.1 u54
      exact w.elim
  · have w := w.2 u53
    exact w.elim
theorem ct_J15_nextNode {E : Gx} (GE : Glob E) {h : Hp} {x0 : Option Nat} {K : Option Nat → Hp → Prop} (w : wp_J15_nextNode h x0 K) : Ct E yJ15_nextNode cJ15_nextNode 3 (Option.some (Jvm.ClassFile.FieldType.object "java/util/HashMap$Node")) 2 [vR [11, 12] x0] h (pR [5, 6, 7] K) :=
  Ct.of GE (by decide +kernel) (by simp [lvA, t2]) rfl (fun X hX C Rr N => wk_J15_nextNode C Rr N h x0 w)
def wp_J16_next_2 (h : Hp) (x0 : Option Nat) (K : Option Nat → Hp → Prop) : Prop :=
  (∃ a8, x0 = some a8 ∧ (wp_J15_nextNode h x0 (fun r11 h12 => Ex h h12 → (K r11 h12))))
set_option maxHeartbeats 4000000 in
theorem wk_J16_next_2 {X : Fx} {K : Option Nat → Hp → Prop} (C : Cx X cJ16_next_2 yJ16_next_2.cls 1 3) (Rr : Rx X (Option.some (Jvm.ClassFile.FieldType.object "java/util/Map$Entry")) (pR [5, 6, 7] K)) (N : Nm X yJ16_next_2.name) (h : Hp) (x0 : Option Nat) (w : wp_J16_next_2 h x0 K) : Gd X h 0 [some (vR [12] x0)] [] := by
  unfold wp_J16_next_2 at w
  refine g_aload_n 1 rfl C dJ16_next_2_0 rfl ?_
  obtain ⟨a8, e9, w⟩ := w
  refine g_known 0 rfl e9 (fun k10 => ?_)
  refine g_sub [some none] [some [11, 12]] rfl rfl ?_
  refine g_callU (As := []) (T := [11, 12]) (st := []) "java/util/HashMap$EntryIterator" 4 rfl C dJ16_next_2_1 q803 q804 dcl_55abb1 q806 q807 q29 q808 okn_bb37d7 (by decide) (by decide) (Nat.le_of_ble_eq_true rfl) e9 (fun _ => tC rfl k10) rfl (ct_J15_nextNode C.glob w) (fun r0 h12 p13 x14 _ => ?_)
  obtain ⟨r11, rfl, w⟩ := p13
  have w := w x14
  change Gd _ _ _ _ (vR [5, 6, 7] r11 :: [])
  exact g_areturn [5, 6, 7] C Rr rfl dJ16_next_2_4 rfl ⟨_, rfl, w⟩
theorem ct_J16_next_2 {E : Gx} (GE : Glob E) {h : Hp} {x0 : Option Nat} {K : Option Nat → Hp → Prop} (w : wp_J16_next_2 h x0 K) : Ct E yJ16_next_2 cJ16_next_2 1 (Option.some (Jvm.ClassFile.FieldType.object "java/util/Map$Entry")) 3 [vR [12] x0] h (pR [5, 6, 7] K) :=
  Ct.of GE (by decide +kernel) (by simp [lvA, t2]) rfl (fun X hX C Rr N => wk_J16_next_2 C Rr N h x0 w)
def wp_J16_next (h : Hp) (x0 : Option Nat) (K : Option Nat → Hp → Prop) : Prop :=
  (∃ a8, x0 = some a8 ∧ (wp_J16_next_2 h x0 (fun r11 h12 => Ex h h12 → (K r11 h12))))
set_option maxHeartbeats 4000000 in
theorem wk_J16_next {X : Fx} {K : Option Nat → Hp → Prop} (C : Cx X cJ16_next yJ16_next.cls 1 4) (Rr : Rx X (Option.some (Jvm.ClassFile.FieldType.object "java/lang/Object")) (pR [5, 6, 7] K)) (N : Nm X yJ16_next.name) (h : Hp) (x0 : Option Nat) (w : wp_J16_next h x0 K) : Gd X h 0 [some (vR [12] x0)] [] := by
  unfold wp_J16_next at w
  refine g_aload_n 1 rfl C dJ16_next_0 rfl ?_
  obtain ⟨a8, e9, w⟩ := w
  refine g_callV (As := []) (T := [12]) (st := []) "java/util/HashMap$EntryIterator" 4 rfl C dJ16_next_1 q799 q800 q801 q30 q802 rfl okn_3cddc1 (by decide) (by decide) (Nat.le_of_ble_eq_true rfl) e9 (fun q => tC rfl q) rfl (ct_J16_next_2 C.glob w) (fun r0 h12 p13 x14 _ => ?_)
  obtain ⟨r11, rfl, w⟩ := p13
  have w := w x14
  change Gd _ _ _ _ (vR [5, 6, 7] r11 :: [])
  exact g_areturn [5, 6, 7] C Rr rfl dJ16_next_4 rfl ⟨_, rfl, w⟩
theorem ct_J16_next {E : Gx} (GE : Glob E) {h : Hp} {x0 : Option Nat} {K : Option Nat → Hp → Prop} (w : wp_J16_next h x0 K) : Ct E yJ16_next cJ16_next 1 (Option.some (Jvm.ClassFile.FieldType.object "java/lang/Object")) 4 [vR [12] x0] h (pR [5, 6, 7] K) :=
  Ct.of GE (by decide +kernel) (by simp [lvA, t2]) rfl (fun X hX C Rr N => wk_J16_next C Rr N h x0 w)
def wp_J17_next (h : Hp) (x0 : Option Nat) (K : Option Nat → Hp → Prop) : Prop :=
  (∃ a10, x0 = some a10 ∧ (wp_J15_nextNode h x0 (fun r13 h14 => Ex h h14 → (∃ a17, r13 = some a17 ∧ (K (rf h14 1 a17) h14)))))
set_option maxHeartbeats 4000000 in
theorem wk_J17_next {X : Fx} {K : Option Nat → Hp → Prop} (C : Cx X cJ17_next yJ17_next.cls 1 3) (Rr : Rx X (Option.some (Jvm.ClassFile.FieldType.object "java/lang/Object")) (pR [4, 60] K)) (N : Nm X yJ17_next.name) (h : Hp) (x0 : Option Nat) (w : wp_J17_next h x0 K) : Gd X h 0 [some (vR [11] x0)] [] := by
  unfold wp_J17_next at w
  refine g_aload_n 1 rfl C dJ17_next_0 rfl ?_
  obtain ⟨a10, e11, w⟩ := w
  refine g_known 0 rfl e11 (fun k12 => ?_)
  refine g_sub [some none] [some [11, 12]] rfl rfl ?_
  refine g_callU (As := []) (T := [11, 12]) (st := []) "java/util/HashMap$KeyIterator" 4 rfl C dJ17_next_1 q814 q815 dcl_55abb1 q816 q807 q29 q808 okn_bb37d7 (by decide) (by decide) (Nat.le_of_ble_eq_true rfl) e11 (fun _ => tC rfl k12) rfl (ct_J15_nextNode C.glob w) (fun r0 h14 p15 x16 _ => ?_)
  obtain ⟨r13, rfl, w⟩ := p15
  have w := w x16
  change Gd _ _ _ _ (vR [5, 6, 7] r13 :: [])
  obtain ⟨a17, e18, w⟩ := w
  refine g_getR 7 rfl C dJ17_next_4 fl_HashMap_KeyIterator_13 rfl e18 rfl ?_
  exact g_areturn [4, 60] C Rr rfl dJ17_next_7 rfl ⟨_, rfl, w⟩
theorem ct_J17_next {E : Gx} (GE : Glob E) {h : Hp} {x0 : Option Nat} {K : Option Nat → Hp → Prop} (w : wp_J17_next h x0 K) : Ct E yJ17_next cJ17_next 1 (Option.some (Jvm.ClassFile.FieldType.object "java/lang/Object")) 3 [vR [11] x0] h (pR [4, 60] K) :=
  Ct.of GE (by decide +kernel) (by simp [lvA, t2]) rfl (fun X hX C Rr N => wk_J17_next C Rr N h x0 w)
def wp_J18_hasNext_b12 (K : Int32 → Hp → Prop) (h : Hp) (s0 : Int32) : Prop :=
  ((s0 = 0 ∨ s0 = 1) ∧ K s0 h)
set_option maxHeartbeats 4000000 in
theorem wk_J18_hasNext_b12 {X : Fx} {K : Int32 → Hp → Prop} (C : Cx X cJ18_hasNext yJ18_hasNext.cls 1 2) (Rr : Rx X (Option.some Jvm.ClassFile.FieldType.boolean) (pI K)) (N : Nm X yJ18_hasNext.name) (h : Hp) (s0 : Int32) (w : wp_J18_hasNext_b12 K h s0) : Gd X h 12 [none] [vI s0] := by
  unfold wp_J18_hasNext_b12 at w
  exact g_zreturn C Rr dJ18_hasNext_12 w.1 ⟨_, rfl, w.2⟩
def wp_J18_hasNext (h : Hp) (x0 : Option Nat) (K : Int32 → Hp → Prop) : Prop :=
  (∃ a5, x0 = some a5 ∧ (((rf h 36 a5) = none → (wp_J18_hasNext_b12 K h 0)) ∧ (∀ a8, (rf h 36 a5) = some a8 → (wp_J18_hasNext_b12 K h 1))))
set_option maxHeartbeats 4000000 in
theorem wk_J18_hasNext {X : Fx} {K : Int32 → Hp → Prop} (C : Cx X cJ18_hasNext yJ18_hasNext.cls 1 2) (Rr : Rx X (Option.some Jvm.ClassFile.FieldType.boolean) (pI K)) (N : Nm X yJ18_hasNext.name) (h : Hp) (x0 : Option Nat) (w : wp_J18_hasNext h x0 K) : Gd X h 0 [some (vR [13] x0)] [] := by
  unfold wp_J18_hasNext at w
  refine g_aload_n 1 rfl C dJ18_hasNext_0 rfl ?_
  obtain ⟨a5, e6, w⟩ := w
  refine g_getR 4 rfl C dJ18_hasNext_1 fl_LinkedHashMap_LinkedHashIterator_26 rfl e6 rfl ?_
  refine g_ifnull 7 11 rfl C dJ18_hasNext_4 rfl (fun u7 => ?_) (fun a8 u7 => ?_)
  · have w := w.1 u7
    refine g_iconst 12 rfl C dJ18_hasNext_11 0 rfl ?_
    refine g_sub [none] [none] rfl rfl ?_
    exact wk_J18_hasNext_b12 C Rr N _ _ w
  · have w := w.2 a8 u7
    refine g_iconst 8 rfl C dJ18_hasNext_7 1 rfl ?_
    refine g_goto 12 C dJ18_hasNext_8 rfl ?_
    refine g_sub [none] [none] rfl rfl ?_
    exact wk_J18_hasNext_b12 C Rr N _ _ w
theorem ct_J18_hasNext {E : Gx} (GE : Glob E) {h : Hp} {x0 : Option Nat} {K : Int32 → Hp → Prop} (w : wp_J18_hasNext h x0 K) : Ct E yJ18_hasNext cJ18_hasNext 1 (Option.some Jvm.ClassFile.FieldType.boolean) 2 [vR [13] x0] h (pI K) :=
  Ct.of GE (by decide +kernel) (by simp [lvA, t2]) rfl (fun X hX C Rr N => wk_J18_hasNext C Rr N h x0 w)
def wp_J18_nextNode_b63 (K : Option Nat → Hp → Prop) (h : Hp) (l1 : Option Nat) (s0 : Option Nat) (s1 : Option Nat) : Prop :=
  (∃ a36, s1 = some a36 ∧ (∀ h38, h38 = wR h 36 a36 s0 → (K l1 h38)))
set_option maxHeartbeats 4000000 in
theorem wk_J18_nextNode_b63 {X : Fx} {K : Option Nat → Hp → Prop} (C : Cx X cJ18_nextNode yJ18_nextNode.cls 2 2) (Rr : Rx X (Option.some (Jvm.ClassFile.FieldType.object "java/util/LinkedHashMap$Entry")) (pR [6, 7] K)) (N : Nm X yJ18_nextNode.name) (h : Hp) (l1 : Option Nat) (s0 : Option Nat) (s1 : Option Nat) (w : wp_J18_nextNode_b63 K h l1 s0 s1) : Gd X h 63 [none, some (vR [6, 7] l1)] [vR [6, 7] s0, vR [13] s1] := by
  unfold wp_J18_nextNode_b63 at w
  obtain ⟨a36, e37, w⟩ := w
  refine g_putR 66 rfl C dJ18_nextNode_63 fl_LinkedHashMap_LinkedHashIterator_26 rfl rfl rfl e37 rfl ?_
  have w := w _ rfl
  refine g_aload_n 67 rfl C dJ18_nextNode_66 rfl ?_
  exact g_areturn [6, 7] C Rr rfl dJ18_nextNode_67 rfl ⟨_, rfl, w⟩
def wp_J18_nextNode (h : Hp) (x0 : Option Nat) (K : Option Nat → Hp → Prop) : Prop :=
  (∃ a26, x0 = some a26 ∧ (∃ a28, (rf h 40 a26) = some a28 ∧ (((it h 16 a28) = (it h 38 a26) → (((rf h 36 a26) = none → False) ∧ (∀ a32, (rf h 36 a26) = some a32 → (∀ h33, h33 = wR h 37 a26 (rf h 36 a26) → ((it h33 39 a26) = 0 ∨ (it h33 39 a26) = 1 → (((it h33 39 a26) = 0 → (wp_J18_nextNode_b63 K h33 (rf h 36 a26) (rf h33 5 a32) x0)) ∧ (¬ (it h33 39 a26) = 0 → (wp_J18_nextNode_b63 K h33 (rf h 36 a26) (rf h33 4 a32) x0)))))))) ∧ (¬ (it h 16 a28) = (it h 38 a26) → False))))
set_option maxHeartbeats 4000000 in
theorem wk_J18_nextNode {X : Fx} {K : Option Nat → Hp → Prop} (C : Cx X cJ18_nextNode yJ18_nextNode.cls 2 2) (Rr : Rx X (Option.some (Jvm.ClassFile.FieldType.object "java/util/LinkedHashMap$Entry")) (pR [6, 7] K)) (N : Nm X yJ18_nextNode.name) (h : Hp) (x0 : Option Nat) (w : wp_J18_nextNode h x0 K) : Gd X h 0 [some (vR [13] x0), none] [] := by
  unfold wp_J18_nextNode at w
  refine g_aload_n 1 rfl C dJ18_nextNode_0 rfl ?_
  obtain ⟨a26, e27, w⟩ := w
  refine g_getR 4 rfl C dJ18_nextNode_1 fl_LinkedHashMap_LinkedHashIterator_26 rfl e27 rfl ?_
  refine g_astore_n 5 rfl C dJ18_nextNode_4 (by decide) (rfl : _ = [some (vR [13] _), some (vR [6, 7] _)]) ?_
  refine g_aload_n 6 rfl C dJ18_nextNode_5 rfl ?_
  refine g_getR 9 rfl C dJ18_nextNode_6 fl_LinkedHashMap_LinkedHashIterator_1 rfl e27 rfl ?_
  obtain ⟨a28, e29, w⟩ := w
  refine g_getI 12 rfl C dJ18_nextNode_9 fl_LinkedHashMap_LinkedHashIterator_29 rfl e29 rfl ?_
  refine g_aload_n 13 rfl C dJ18_nextNode_12 rfl ?_
  refine g_getI 16 rfl C dJ18_nextNode_13 fl_LinkedHashMap_LinkedHashIterator_33 rfl e27 rfl ?_
  refine g_icmp_eq 19 27 rfl C dJ18_nextNode_16 rfl (fun u30 => ?_) (fun u30 => ?_)
  · have w := w.1 u30
    refine g_aload_n 28 rfl C dJ18_nextNode_27 rfl ?_
    refine g_ifnonnull 31 39 rfl C dJ18_nextNode_28 rfl (fun a32 u31 => ?_) (fun u31 => ?_)
    · have w := w.2 a32 u31
      refine g_aload_n 40 rfl C dJ18_nextNode_39 rfl ?_
      refine g_aload_n 41 rfl C dJ18_nextNode_40 rfl ?_
      refine g_putR 44 rfl C dJ18_nextNode_41 fl_LinkedHashMap_LinkedHashIterator_36 rfl rfl rfl e27 rfl ?_
      have w := w _ rfl
      refine g_aload_n 45 rfl C dJ18_nextNode_44 rfl ?_
      refine g_aload_n 46 rfl C dJ18_nextNode_45 rfl ?_
      refine g_getZ 49 rfl C dJ18_nextNode_46 fl_LinkedHashMap_LinkedHashIterator_13 rfl e27 rfl (fun z34 => ?_)
      have w := w z34
      refine g_if_eq 52 59 rfl C dJ18_nextNode_49 rfl (fun u35 => ?_) (fun u35 => ?_)
      · have w := w.1 u35
        refine g_aload_n 60 rfl C dJ18_nextNode_59 rfl ?_
        refine g_getR 63 rfl C dJ18_nextNode_60 fl_LinkedHashMap_LinkedHashIterator_50 rfl u31 rfl ?_
        refine g_sub [none, some none] [none, none] rfl rfl ?_
        exact wk_J18_nextNode_b63 C Rr N _ _ _ _ w
      · have w := w.2 u35
        refine g_aload_n 53 rfl C dJ18_nextNode_52 rfl ?_
        refine g_getR 56 rfl C dJ18_nextNode_53 fl_LinkedHashMap_LinkedHashIterator_45 rfl u31 rfl ?_
        refine g_goto 63 C dJ18_nextNode_56 rfl ?_
        refine g_sub [none, some none] [none, none] rfl rfl ?_
        exact wk_J18_nextNode_b63 C Rr N _ _ _ _ w
    · have w := w.1 u31
      exact w.elim
  · have w := w.2 u30
    exact w.elim
theorem ct_J18_nextNode {E : Gx} (GE : Glob E) {h : Hp} {x0 : Option Nat} {K : Option Nat → Hp → Prop} (w : wp_J18_nextNode h x0 K) : Ct E yJ18_nextNode cJ18_nextNode 2 (Option.some (Jvm.ClassFile.FieldType.object "java/util/LinkedHashMap$Entry")) 2 [vR [13] x0] h (pR [6, 7] K) :=
  Ct.of GE (by decide +kernel) (by simp [lvA, t2]) rfl (fun X hX C Rr N => wk_J18_nextNode C Rr N h x0 w)
def wp_J19_next_2 (h : Hp) (x0 : Option Nat) (K : Option Nat → Hp → Prop) : Prop :=
  (∃ a8, x0 = some a8 ∧ (wp_J18_nextNode h x0 (fun r11 h12 => Ex h h12 → (K r11 h12))))
set_option maxHeartbeats 4000000 in
theorem wk_J19_next_2 {X : Fx} {K : Option Nat → Hp → Prop} (C : Cx X cJ19_next_2 yJ19_next_2.cls 1 3) (Rr : Rx X (Option.some (Jvm.ClassFile.FieldType.object "java/util/Map$Entry")) (pR [6, 7] K)) (N : Nm X yJ19_next_2.name) (h : Hp) (x0 : Option Nat) (w : wp_J19_next_2 h x0 K) : Gd X h 0 [some (vR [13] x0)] [] := by
  unfold wp_J19_next_2 at w
  refine g_aload_n 1 rfl C dJ19_next_2_0 rfl ?_
  obtain ⟨a8, e9, w⟩ := w
  refine g_callU (As := []) (T := [13]) (st := []) "java/util/LinkedHashMap$LinkedEntryIterator" 4 rfl C dJ19_next_2_1 q826 q827 dcl_7925f7 q829 q830 q32 q831 okn_334ed9 (by decide) (by decide) (Nat.le_of_ble_eq_true rfl) e9 (fun q => tC rfl q) rfl (ct_J18_nextNode C.glob w) (fun r0 h12 p13 x14 _ => ?_)
  obtain ⟨r11, rfl, w⟩ := p13
  have w := w x14
  change Gd _ _ _ _ (vR [6, 7] r11 :: [])
  exact g_areturn [6, 7] C Rr rfl dJ19_next_2_4 rfl ⟨_, rfl, w⟩
theorem ct_J19_next_2 {E : Gx} (GE : Glob E) {h : Hp} {x0 : Option Nat} {K : Option Nat → Hp → Prop} (w : wp_J19_next_2 h x0 K) : Ct E yJ19_next_2 cJ19_next_2 1 (Option.some (Jvm.ClassFile.FieldType.object "java/util/Map$Entry")) 3 [vR [13] x0] h (pR [6, 7] K) :=
  Ct.of GE (by decide +kernel) (by simp [lvA, t2]) rfl (fun X hX C Rr N => wk_J19_next_2 C Rr N h x0 w)
def wp_J19_next (h : Hp) (x0 : Option Nat) (K : Option Nat → Hp → Prop) : Prop :=
  (∃ a8, x0 = some a8 ∧ (wp_J19_next_2 h x0 (fun r11 h12 => Ex h h12 → (K r11 h12))))
set_option maxHeartbeats 4000000 in
theorem wk_J19_next {X : Fx} {K : Option Nat → Hp → Prop} (C : Cx X cJ19_next yJ19_next.cls 1 4) (Rr : Rx X (Option.some (Jvm.ClassFile.FieldType.object "java/lang/Object")) (pR [6, 7] K)) (N : Nm X yJ19_next.name) (h : Hp) (x0 : Option Nat) (w : wp_J19_next h x0 K) : Gd X h 0 [some (vR [13] x0)] [] := by
  unfold wp_J19_next at w
  refine g_aload_n 1 rfl C dJ19_next_0 rfl ?_
  obtain ⟨a8, e9, w⟩ := w
  refine g_callV (As := []) (T := [13]) (st := []) "java/util/LinkedHashMap$LinkedEntryIterator" 4 rfl C dJ19_next_1 q822 q823 q824 q33 q825 rfl okn_2d1bfd (by decide) (by decide) (Nat.le_of_ble_eq_true rfl) e9 (fun q => tC rfl q) rfl (ct_J19_next_2 C.glob w) (fun r0 h12 p13 x14 _ => ?_)
  obtain ⟨r11, rfl, w⟩ := p13
  have w := w x14
  change Gd _ _ _ _ (vR [6, 7] r11 :: [])
  exact g_areturn [6, 7] C Rr rfl dJ19_next_4 rfl ⟨_, rfl, w⟩
theorem ct_J19_next {E : Gx} (GE : Glob E) {h : Hp} {x0 : Option Nat} {K : Option Nat → Hp → Prop} (w : wp_J19_next h x0 K) : Ct E yJ19_next cJ19_next 1 (Option.some (Jvm.ClassFile.FieldType.object "java/lang/Object")) 4 [vR [13] x0] h (pR [6, 7] K) :=
  Ct.of GE (by decide +kernel) (by simp [lvA, t2]) rfl (fun X hX C Rr N => wk_J19_next C Rr N h x0 w)
def wp_J2_afterNodeAccess_b265 (K : Hp → Prop) (h : Hp)  : Prop :=
  (K h)
set_option maxHeartbeats 4000000 in
theorem wk_J2_afterNodeAccess_b265 {X : Fx} {K : Hp → Prop} (C : Cx X cJ2_afterNodeAccess yJ2_afterNodeAccess.cls 7 2) (Rr : Rx X (Option.none : Option Jvm.ClassFile.FieldType) (pV K)) (N : Nm X yJ2_afterNodeAccess.name) (h : Hp)  (w : wp_J2_afterNodeAccess_b265 K h ) : Gd X h 265 [none, none, none, none, none, none, none] [] := by
  unfold wp_J2_afterNodeAccess_b265 at w
  exact g_vreturn C Rr dJ2_afterNodeAccess_265 ⟨rfl, w⟩
def wp_J2_afterNodeAccess_b122 (K : Hp → Prop) (h : Hp) (l0 : Option Nat) (l4 : Option Nat) : Prop :=
  (∃ a157, l0 = some a157 ∧ (∀ h159, h159 = wR h 20 a157 l4 → (∀ h160, h160 = wI h159 16 a157 ((it h159 16 a157) + 1) → (wp_J2_afterNodeAccess_b265 K h160))))
set_option maxHeartbeats 4000000 in
theorem wk_J2_afterNodeAccess_b122 {X : Fx} {K : Hp → Prop} (C : Cx X cJ2_afterNodeAccess yJ2_afterNodeAccess.cls 7 2) (Rr : Rx X (Option.none : Option Jvm.ClassFile.FieldType) (pV K)) (N : Nm X yJ2_afterNodeAccess.name) (h : Hp) (l0 : Option Nat) (l4 : Option Nat) (w : wp_J2_afterNodeAccess_b122 K h l0 l4) : Gd X h 122 [some (vR [3] l0), none, none, none, some (vR [6, 7] l4), none, none] [] := by
  unfold wp_J2_afterNodeAccess_b122 at w
  refine g_aload_n 123 rfl C dJ2_afterNodeAccess_122 rfl ?_
  refine g_aload 125 rfl C dJ2_afterNodeAccess_123 rfl ?_
  obtain ⟨a157, e158, w⟩ := w
  refine g_putR 128 rfl C dJ2_afterNodeAccess_125 fl_LinkedHashMap_11 rfl rfl rfl e158 rfl ?_
  have w := w _ rfl
  refine g_aload_n 129 rfl C dJ2_afterNodeAccess_128 rfl ?_
  refine g_dup 130 rfl C dJ2_afterNodeAccess_129 rfl ?_
  refine g_getI 133 rfl C dJ2_afterNodeAccess_130 fl_LinkedHashMap_68 rfl e158 rfl ?_
  refine g_iconst 134 rfl C dJ2_afterNodeAccess_133 1 rfl ?_
  refine g_iadd 135 rfl C dJ2_afterNodeAccess_134 ?_
  refine g_putI 138 rfl C dJ2_afterNodeAccess_135 fl_LinkedHashMap_68 rfl rfl e158 rfl ?_
  have w := w _ rfl
  refine g_goto 265 C dJ2_afterNodeAccess_138 rfl ?_
  refine g_sub [none, none, none, none, none, none, none] [] rfl rfl ?_
  exact wk_J2_afterNodeAccess_b265 C Rr N _ w
def wp_J2_afterNodeAccess_b97 (K : Hp → Prop) (h : Hp) (l0 : Option Nat) (l2 : Option Nat) (l4 : Option Nat) : Prop :=
  ((l2 = none → (∃ a111, l0 = some a111 ∧ (∀ h113, h113 = wR h 19 a111 l4 → (wp_J2_afterNodeAccess_b122 K h113 l0 l4)))) ∧ (∀ a110, l2 = some a110 → (∃ a114, l4 = some a114 ∧ (∀ h116, h116 = wR h 4 a114 l2 → (∀ h117, h117 = wR h116 5 a110 l4 → (wp_J2_afterNodeAccess_b122 K h117 l0 l4))))))
set_option maxHeartbeats 4000000 in
theorem wk_J2_afterNodeAccess_b97 {X : Fx} {K : Hp → Prop} (C : Cx X cJ2_afterNodeAccess yJ2_afterNodeAccess.cls 7 2) (Rr : Rx X (Option.none : Option Jvm.ClassFile.FieldType) (pV K)) (N : Nm X yJ2_afterNodeAccess.name) (h : Hp) (l0 : Option Nat) (l2 : Option Nat) (l4 : Option Nat) (w : wp_J2_afterNodeAccess_b97 K h l0 l2 l4) : Gd X h 97 [some (vR [3] l0), none, some (vR [6, 7] l2), none, some (vR [6, 7] l4), none, none] [] := by
  unfold wp_J2_afterNodeAccess_b97 at w
  refine g_aload_n 98 rfl C dJ2_afterNodeAccess_97 rfl ?_
  refine g_ifnonnull 101 110 rfl C dJ2_afterNodeAccess_98 rfl (fun a110 u109 => ?_) (fun u109 => ?_)
  · have w := w.2 a110 u109
    refine g_aload 112 rfl C dJ2_afterNodeAccess_110 rfl ?_
    refine g_aload_n 113 rfl C dJ2_afterNodeAccess_112 rfl ?_
    obtain ⟨a114, e115, w⟩ := w
    refine g_putR 116 rfl C dJ2_afterNodeAccess_113 fl_LinkedHashMap_19 rfl rfl rfl e115 rfl ?_
    have w := w _ rfl
    refine g_aload_n 117 rfl C dJ2_afterNodeAccess_116 rfl ?_
    refine g_aload 119 rfl C dJ2_afterNodeAccess_117 rfl ?_
    refine g_putR 122 rfl C dJ2_afterNodeAccess_119 fl_LinkedHashMap_14 rfl rfl rfl u109 rfl ?_
    have w := w _ rfl
    refine g_sub [some none, none, none, none, some none, none, none] [] rfl rfl ?_
    exact wk_J2_afterNodeAccess_b122 C Rr N _ _ _ w
  · have w := w.1 u109
    refine g_aload_n 102 rfl C dJ2_afterNodeAccess_101 rfl ?_
    refine g_aload 104 rfl C dJ2_afterNodeAccess_102 rfl ?_
    obtain ⟨a111, e112, w⟩ := w
    refine g_putR 107 rfl C dJ2_afterNodeAccess_104 fl_LinkedHashMap_7 rfl rfl rfl e112 rfl ?_
    have w := w _ rfl
    refine g_goto 122 C dJ2_afterNodeAccess_107 rfl ?_
    refine g_sub [some none, none, none, none, some none, none, none] [] rfl rfl ?_
    exact wk_J2_afterNodeAccess_b122 C Rr N _ _ _ w
def wp_J2_afterNodeAccess_b79 (K : Hp → Prop) (h : Hp) (l0 : Option Nat) (l2 : Option Nat) (l4 : Option Nat) (l5 : Option Nat) (l6 : Option Nat) : Prop :=
  ((l6 = none → (wp_J2_afterNodeAccess_b97 K h l0 l5 l4)) ∧ (∀ a140, l6 = some a140 → (∀ h141, h141 = wR h 4 a140 l5 → (wp_J2_afterNodeAccess_b97 K h141 l0 l2 l4))))
set_option maxHeartbeats 4000000 in
theorem wk_J2_afterNodeAccess_b79 {X : Fx} {K : Hp → Prop} (C : Cx X cJ2_afterNodeAccess yJ2_afterNodeAccess.cls 7 2) (Rr : Rx X (Option.none : Option Jvm.ClassFile.FieldType) (pV K)) (N : Nm X yJ2_afterNodeAccess.name) (h : Hp) (l0 : Option Nat) (l2 : Option Nat) (l4 : Option Nat) (l5 : Option Nat) (l6 : Option Nat) (w : wp_J2_afterNodeAccess_b79 K h l0 l2 l4 l5 l6) : Gd X h 79 [some (vR [3] l0), none, some (vR [6, 7] l2), none, some (vR [6, 7] l4), some (vR [6, 7] l5), some (vR [6, 7] l6)] [] := by
  unfold wp_J2_afterNodeAccess_b79 at w
  refine g_aload 81 rfl C dJ2_afterNodeAccess_79 rfl ?_
  refine g_ifnull 84 94 rfl C dJ2_afterNodeAccess_81 rfl (fun u139 => ?_) (fun a140 u139 => ?_)
  · have w := w.1 u139
    refine g_aload 96 rfl C dJ2_afterNodeAccess_94 rfl ?_
    refine g_astore_n 97 rfl C dJ2_afterNodeAccess_96 (by decide) (rfl : _ = [some (vR [3] _), none, some (vR [6, 7] _), none, some (vR [6, 7] _), some (vR [6, 7] _), some (vR [6, 7] _)]) ?_
    refine g_sub [some none, none, some none, none, some none, none, none] [] rfl rfl ?_
    exact wk_J2_afterNodeAccess_b97 C Rr N _ _ _ _ w
  · have w := w.2 a140 u139
    refine g_aload 86 rfl C dJ2_afterNodeAccess_84 rfl ?_
    refine g_aload 88 rfl C dJ2_afterNodeAccess_86 rfl ?_
    refine g_putR 91 rfl C dJ2_afterNodeAccess_88 fl_LinkedHashMap_19 rfl rfl rfl u139 rfl ?_
    have w := w _ rfl
    refine g_goto 97 C dJ2_afterNodeAccess_91 rfl ?_
    refine g_sub [some none, none, some none, none, some none, none, none] [] rfl rfl ?_
    exact wk_J2_afterNodeAccess_b97 C Rr N _ _ _ _ w
def wp_J2_afterNodeAccess_b249 (K : Hp → Prop) (h : Hp) (l0 : Option Nat) (l4 : Option Nat) : Prop :=
  (∃ a153, l0 = some a153 ∧ (∀ h155, h155 = wR h 19 a153 l4 → (∀ h156, h156 = wI h155 16 a153 ((it h155 16 a153) + 1) → (wp_J2_afterNodeAccess_b265 K h156))))
set_option maxHeartbeats 4000000 in
theorem wk_J2_afterNodeAccess_b249 {X : Fx} {K : Hp → Prop} (C : Cx X cJ2_afterNodeAccess yJ2_afterNodeAccess.cls 7 2) (Rr : Rx X (Option.none : Option Jvm.ClassFile.FieldType) (pV K)) (N : Nm X yJ2_afterNodeAccess.name) (h : Hp) (l0 : Option Nat) (l4 : Option Nat) (w : wp_J2_afterNodeAccess_b249 K h l0 l4) : Gd X h 249 [some (vR [3] l0), none, none, none, some (vR [6, 7] l4), none, none] [] := by
  unfold wp_J2_afterNodeAccess_b249 at w
  refine g_aload_n 250 rfl C dJ2_afterNodeAccess_249 rfl ?_
  refine g_aload 252 rfl C dJ2_afterNodeAccess_250 rfl ?_
  obtain ⟨a153, e154, w⟩ := w
  refine g_putR 255 rfl C dJ2_afterNodeAccess_252 fl_LinkedHashMap_7 rfl rfl rfl e154 rfl ?_
  have w := w _ rfl
  refine g_aload_n 256 rfl C dJ2_afterNodeAccess_255 rfl ?_
  refine g_dup 257 rfl C dJ2_afterNodeAccess_256 rfl ?_
  refine g_getI 260 rfl C dJ2_afterNodeAccess_257 fl_LinkedHashMap_68 rfl e154 rfl ?_
  refine g_iconst 261 rfl C dJ2_afterNodeAccess_260 1 rfl ?_
  refine g_iadd 262 rfl C dJ2_afterNodeAccess_261 ?_
  refine g_putI 265 rfl C dJ2_afterNodeAccess_262 fl_LinkedHashMap_68 rfl rfl e154 rfl ?_
  have w := w _ rfl
  refine g_sub [none, none, none, none, none, none, none] [] rfl rfl ?_
  exact wk_J2_afterNodeAccess_b265 C Rr N _ w
def wp_J2_afterNodeAccess_b224 (K : Hp → Prop) (h : Hp) (l0 : Option Nat) (l3 : Option Nat) (l4 : Option Nat) : Prop :=
  ((l3 = none → (∃ a102, l0 = some a102 ∧ (∀ h104, h104 = wR h 20 a102 l4 → (wp_J2_afterNodeAccess_b249 K h104 l0 l4)))) ∧ (∀ a101, l3 = some a101 → (∃ a105, l4 = some a105 ∧ (∀ h107, h107 = wR h 5 a105 l3 → (∀ h108, h108 = wR h107 4 a101 l4 → (wp_J2_afterNodeAccess_b249 K h108 l0 l4))))))
set_option maxHeartbeats 4000000 in
theorem wk_J2_afterNodeAccess_b224 {X : Fx} {K : Hp → Prop} (C : Cx X cJ2_afterNodeAccess yJ2_afterNodeAccess.cls 7 2) (Rr : Rx X (Option.none : Option Jvm.ClassFile.FieldType) (pV K)) (N : Nm X yJ2_afterNodeAccess.name) (h : Hp) (l0 : Option Nat) (l3 : Option Nat) (l4 : Option Nat) (w : wp_J2_afterNodeAccess_b224 K h l0 l3 l4) : Gd X h 224 [some (vR [3] l0), none, none, some (vR [6, 7] l3), some (vR [6, 7] l4), none, none] [] := by
  unfold wp_J2_afterNodeAccess_b224 at w
  refine g_aload_n 225 rfl C dJ2_afterNodeAccess_224 rfl ?_
  refine g_ifnonnull 228 237 rfl C dJ2_afterNodeAccess_225 rfl (fun a101 u100 => ?_) (fun u100 => ?_)
  · have w := w.2 a101 u100
    refine g_aload 239 rfl C dJ2_afterNodeAccess_237 rfl ?_
    refine g_aload_n 240 rfl C dJ2_afterNodeAccess_239 rfl ?_
    obtain ⟨a105, e106, w⟩ := w
    refine g_putR 243 rfl C dJ2_afterNodeAccess_240 fl_LinkedHashMap_14 rfl rfl rfl e106 rfl ?_
    have w := w _ rfl
    refine g_aload_n 244 rfl C dJ2_afterNodeAccess_243 rfl ?_
    refine g_aload 246 rfl C dJ2_afterNodeAccess_244 rfl ?_
    refine g_putR 249 rfl C dJ2_afterNodeAccess_246 fl_LinkedHashMap_19 rfl rfl rfl u100 rfl ?_
    have w := w _ rfl
    refine g_sub [some none, none, none, none, some none, none, none] [] rfl rfl ?_
    exact wk_J2_afterNodeAccess_b249 C Rr N _ _ _ w
  · have w := w.1 u100
    refine g_aload_n 229 rfl C dJ2_afterNodeAccess_228 rfl ?_
    refine g_aload 231 rfl C dJ2_afterNodeAccess_229 rfl ?_
    obtain ⟨a102, e103, w⟩ := w
    refine g_putR 234 rfl C dJ2_afterNodeAccess_231 fl_LinkedHashMap_11 rfl rfl rfl e103 rfl ?_
    have w := w _ rfl
    refine g_goto 249 C dJ2_afterNodeAccess_234 rfl ?_
    refine g_sub [some none, none, none, none, some none, none, none] [] rfl rfl ?_
    exact wk_J2_afterNodeAccess_b249 C Rr N _ _ _ w
def wp_J2_afterNodeAccess_b206 (K : Hp → Prop) (h : Hp) (l0 : Option Nat) (l3 : Option Nat) (l4 : Option Nat) (l5 : Option Nat) (l6 : Option Nat) : Prop :=
  ((l5 = none → (wp_J2_afterNodeAccess_b224 K h l0 l6 l4)) ∧ (∀ a137, l5 = some a137 → (∀ h138, h138 = wR h 5 a137 l6 → (wp_J2_afterNodeAccess_b224 K h138 l0 l3 l4))))
set_option maxHeartbeats 4000000 in
theorem wk_J2_afterNodeAccess_b206 {X : Fx} {K : Hp → Prop} (C : Cx X cJ2_afterNodeAccess yJ2_afterNodeAccess.cls 7 2) (Rr : Rx X (Option.none : Option Jvm.ClassFile.FieldType) (pV K)) (N : Nm X yJ2_afterNodeAccess.name) (h : Hp) (l0 : Option Nat) (l3 : Option Nat) (l4 : Option Nat) (l5 : Option Nat) (l6 : Option Nat) (w : wp_J2_afterNodeAccess_b206 K h l0 l3 l4 l5 l6) : Gd X h 206 [some (vR [3] l0), none, none, some (vR [6, 7] l3), some (vR [6, 7] l4), some (vR [6, 7] l5), some (vR [6, 7] l6)] [] := by
  unfold wp_J2_afterNodeAccess_b206 at w
  refine g_aload 208 rfl C dJ2_afterNodeAccess_206 rfl ?_
  refine g_ifnull 211 221 rfl C dJ2_afterNodeAccess_208 rfl (fun u136 => ?_) (fun a137 u136 => ?_)
  · have w := w.1 u136
    refine g_aload 223 rfl C dJ2_afterNodeAccess_221 rfl ?_
    refine g_astore_n 224 rfl C dJ2_afterNodeAccess_223 (by decide) (rfl : _ = [some (vR [3] _), none, none, some (vR [6, 7] _), some (vR [6, 7] _), some (vR [6, 7] _), some (vR [6, 7] _)]) ?_
    refine g_sub [some none, none, none, some none, some none, none, none] [] rfl rfl ?_
    exact wk_J2_afterNodeAccess_b224 C Rr N _ _ _ _ w
  · have w := w.2 a137 u136
    refine g_aload 213 rfl C dJ2_afterNodeAccess_211 rfl ?_
    refine g_aload 215 rfl C dJ2_afterNodeAccess_213 rfl ?_
    refine g_putR 218 rfl C dJ2_afterNodeAccess_215 fl_LinkedHashMap_14 rfl rfl rfl u136 rfl ?_
    have w := w _ rfl
    refine g_goto 224 C dJ2_afterNodeAccess_218 rfl ?_
    refine g_sub [some none, none, none, some none, some none, none, none] [] rfl rfl ?_
    exact wk_J2_afterNodeAccess_b224 C Rr N _ _ _ _ w
def wp_J2_afterNodeAccess_b141 (K : Hp → Prop) (h : Hp) (l0 : Option Nat) (l1 : Option Nat) : Prop :=
  (∃ a124, l0 = some a124 ∧ ((¬ (it h 22 a124) = 1 → (wp_J2_afterNodeAccess_b265 K h)) ∧ ((it h 22 a124) = 1 → (((rf h 19 a124) = l1 → (wp_J2_afterNodeAccess_b265 K h)) ∧ (¬ (rf h 19 a124) = l1 → ((∀ a, l1 = some a → kd h a ∈ [6, 7]) ∧ (∃ a129, l1 = some a129 ∧ (∀ h131, h131 = wR h 4 a129 none → (((rf h 5 a129) = none → (∀ h134, h134 = wR h131 20 a124 (rf h 4 a129) → (wp_J2_afterNodeAccess_b206 K h134 l0 (rf h 19 a124) l1 (rf h 4 a129) (rf h 5 a129)))) ∧ (∀ a133, (rf h 5 a129) = some a133 → (∀ h135, h135 = wR h131 4 a133 (rf h 4 a129) → (wp_J2_afterNodeAccess_b206 K h135 l0 (rf h 19 a124) l1 (rf h 4 a129) (rf h 5 a129)))))))))))))
set_option maxHeartbeats 4000000 in
theorem wk_J2_afterNodeAccess_b141 {X : Fx} {K : Hp → Prop} (C : Cx X cJ2_afterNodeAccess yJ2_afterNodeAccess.cls 7 2) (Rr : Rx X (Option.none : Option Jvm.ClassFile.FieldType) (pV K)) (N : Nm X yJ2_afterNodeAccess.name) (h : Hp) (l0 : Option Nat) (l1 : Option Nat) (w : wp_J2_afterNodeAccess_b141 K h l0 l1) : Gd X h 141 [some (vR [3] l0), some (vR [5, 6, 7] l1), none, none, none, none, none] [] := by
  unfold wp_J2_afterNodeAccess_b141 at w
  refine g_aload_n 142 rfl C dJ2_afterNodeAccess_141 rfl ?_
  obtain ⟨a124, e125, w⟩ := w
  refine g_getI 145 rfl C dJ2_afterNodeAccess_142 fl_LinkedHashMap_1 rfl e125 rfl ?_
  refine g_iconst 146 rfl C dJ2_afterNodeAccess_145 1 rfl ?_
  refine g_icmp_ne 149 265 rfl C dJ2_afterNodeAccess_146 rfl (fun u126 => ?_) (fun u126 => ?_)
  · have w := w.1 u126
    refine g_sub [none, none, none, none, none, none, none] [] rfl rfl ?_
    exact wk_J2_afterNodeAccess_b265 C Rr N _ w
  · have w := w.2 u126
    refine g_aload_n 150 rfl C dJ2_afterNodeAccess_149 rfl ?_
    refine g_getR 153 rfl C dJ2_afterNodeAccess_150 fl_LinkedHashMap_7 rfl e125 rfl ?_
    refine g_dup 154 rfl C dJ2_afterNodeAccess_153 rfl ?_
    refine g_astore_n 155 rfl C dJ2_afterNodeAccess_154 (by decide) (rfl : _ = [some (vR [3] _), some (vR [5, 6, 7] _), none, some (vR [6, 7] _), none, none, none]) ?_
    refine g_aload_n 156 rfl C dJ2_afterNodeAccess_155 rfl ?_
    refine g_acmp_eq 159 265 rfl C dJ2_afterNodeAccess_156 rfl (fun u127 => ?_) (fun u127 => ?_)
    · have w := w.1 u127
      refine g_sub [none, none, none, none, none, none, none] [] rfl rfl ?_
      exact wk_J2_afterNodeAccess_b265 C Rr N _ w
    · have w := w.2 u127
      refine g_aload_n 160 rfl C dJ2_afterNodeAccess_159 rfl ?_
      obtain ⟨k128, w⟩ := w
      refine g_cast [6, 7] 163 rfl C dJ2_afterNodeAccess_160 q239 co_LinkedHashMap_Entry_6_7 (fun a q _ => k128 a q) ?_
      refine g_astore 165 rfl C dJ2_afterNodeAccess_163 (by decide) (rfl : _ = [some (vR [3] _), some (vR [5, 6, 7] _), none, some (vR [6, 7] _), some (vR [6, 7] _), none, none]) ?_
      refine g_aload 167 rfl C dJ2_afterNodeAccess_165 rfl ?_
      obtain ⟨a129, e130, w⟩ := w
      refine g_getR 170 rfl C dJ2_afterNodeAccess_167 fl_LinkedHashMap_19 rfl e130 rfl ?_
      refine g_astore 172 rfl C dJ2_afterNodeAccess_170 (by decide) (rfl : _ = [some (vR [3] _), some (vR [5, 6, 7] _), none, some (vR [6, 7] _), some (vR [6, 7] _), some (vR [6, 7] _), none]) ?_
      refine g_aload 174 rfl C dJ2_afterNodeAccess_172 rfl ?_
      refine g_getR 177 rfl C dJ2_afterNodeAccess_174 fl_LinkedHashMap_14 rfl e130 rfl ?_
      refine g_astore 179 rfl C dJ2_afterNodeAccess_177 (by decide) (rfl : _ = [some (vR [3] _), some (vR [5, 6, 7] _), none, some (vR [6, 7] _), some (vR [6, 7] _), some (vR [6, 7] _), some (vR [6, 7] _)]) ?_
      refine g_aload 181 rfl C dJ2_afterNodeAccess_179 rfl ?_
      refine g_null 182 rfl C dJ2_afterNodeAccess_181 ?_
      refine g_putR 185 rfl C dJ2_afterNodeAccess_182 fl_LinkedHashMap_19 rfl rfl rfl e130 rfl ?_
      have w := w _ rfl
      refine g_aload 187 rfl C dJ2_afterNodeAccess_185 rfl ?_
      refine g_ifnonnull 190 199 rfl C dJ2_afterNodeAccess_187 rfl (fun a133 u132 => ?_) (fun u132 => ?_)
      · have w := w.2 a133 u132
        refine g_aload 201 rfl C dJ2_afterNodeAccess_199 rfl ?_
        refine g_aload 203 rfl C dJ2_afterNodeAccess_201 rfl ?_
        refine g_putR 206 rfl C dJ2_afterNodeAccess_203 fl_LinkedHashMap_19 rfl rfl rfl u132 rfl ?_
        have w := w _ rfl
        refine g_sub [some none, none, none, some none, some none, some none, some none] [] rfl rfl ?_
        exact wk_J2_afterNodeAccess_b206 C Rr N _ _ _ _ _ _ w
      · have w := w.1 u132
        refine g_aload_n 191 rfl C dJ2_afterNodeAccess_190 rfl ?_
        refine g_aload 193 rfl C dJ2_afterNodeAccess_191 rfl ?_
        refine g_putR 196 rfl C dJ2_afterNodeAccess_193 fl_LinkedHashMap_11 rfl rfl rfl e125 rfl ?_
        have w := w _ rfl
        refine g_goto 206 C dJ2_afterNodeAccess_196 rfl ?_
        refine g_sub [some none, none, none, some none, some none, some none, some none] [] rfl rfl ?_
        exact wk_J2_afterNodeAccess_b206 C Rr N _ _ _ _ _ _ w
def wp_J2_afterNodeAccess_b22 (K : Hp → Prop) (h : Hp) (l0 : Option Nat) (l1 : Option Nat) : Prop :=
  (∃ a142, l0 = some a142 ∧ (((rf h 20 a142) = l1 → (wp_J2_afterNodeAccess_b141 K h l0 l1)) ∧ (¬ (rf h 20 a142) = l1 → ((∀ a, l1 = some a → kd h a ∈ [6, 7]) ∧ (∃ a146, l1 = some a146 ∧ (∀ h148, h148 = wR h 5 a146 none → (((rf h 4 a146) = none → (∀ h151, h151 = wR h148 19 a142 (rf h 5 a146) → (wp_J2_afterNodeAccess_b79 K h151 l0 (rf h 20 a142) l1 (rf h 4 a146) (rf h 5 a146)))) ∧ (∀ a150, (rf h 4 a146) = some a150 → (∀ h152, h152 = wR h148 5 a150 (rf h 5 a146) → (wp_J2_afterNodeAccess_b79 K h152 l0 (rf h 20 a142) l1 (rf h 4 a146) (rf h 5 a146)))))))))))
set_option maxHeartbeats 4000000 in
theorem wk_J2_afterNodeAccess_b22 {X : Fx} {K : Hp → Prop} (C : Cx X cJ2_afterNodeAccess yJ2_afterNodeAccess.cls 7 2) (Rr : Rx X (Option.none : Option Jvm.ClassFile.FieldType) (pV K)) (N : Nm X yJ2_afterNodeAccess.name) (h : Hp) (l0 : Option Nat) (l1 : Option Nat) (w : wp_J2_afterNodeAccess_b22 K h l0 l1) : Gd X h 22 [some (vR [3] l0), some (vR [5, 6, 7] l1), none, none, none, none, none] [] := by
  unfold wp_J2_afterNodeAccess_b22 at w
  refine g_aload_n 23 rfl C dJ2_afterNodeAccess_22 rfl ?_
  obtain ⟨a142, e143, w⟩ := w
  refine g_getR 26 rfl C dJ2_afterNodeAccess_23 fl_LinkedHashMap_11 rfl e143 rfl ?_
  refine g_dup 27 rfl C dJ2_afterNodeAccess_26 rfl ?_
  refine g_astore_n 28 rfl C dJ2_afterNodeAccess_27 (by decide) (rfl : _ = [some (vR [3] _), some (vR [5, 6, 7] _), some (vR [6, 7] _), none, none, none, none]) ?_
  refine g_aload_n 29 rfl C dJ2_afterNodeAccess_28 rfl ?_
  refine g_acmp_eq 32 141 rfl C dJ2_afterNodeAccess_29 rfl (fun u144 => ?_) (fun u144 => ?_)
  · have w := w.1 u144
    refine g_sub [some none, some none, none, none, none, none, none] [] rfl rfl ?_
    exact wk_J2_afterNodeAccess_b141 C Rr N _ _ _ w
  · have w := w.2 u144
    refine g_aload_n 33 rfl C dJ2_afterNodeAccess_32 rfl ?_
    obtain ⟨k145, w⟩ := w
    refine g_cast [6, 7] 36 rfl C dJ2_afterNodeAccess_33 q239 co_LinkedHashMap_Entry_6_7 (fun a q _ => k145 a q) ?_
    refine g_astore 38 rfl C dJ2_afterNodeAccess_36 (by decide) (rfl : _ = [some (vR [3] _), some (vR [5, 6, 7] _), some (vR [6, 7] _), none, some (vR [6, 7] _), none, none]) ?_
    refine g_aload 40 rfl C dJ2_afterNodeAccess_38 rfl ?_
    obtain ⟨a146, e147, w⟩ := w
    refine g_getR 43 rfl C dJ2_afterNodeAccess_40 fl_LinkedHashMap_19 rfl e147 rfl ?_
    refine g_astore 45 rfl C dJ2_afterNodeAccess_43 (by decide) (rfl : _ = [some (vR [3] _), some (vR [5, 6, 7] _), some (vR [6, 7] _), none, some (vR [6, 7] _), some (vR [6, 7] _), none]) ?_
    refine g_aload 47 rfl C dJ2_afterNodeAccess_45 rfl ?_
    refine g_getR 50 rfl C dJ2_afterNodeAccess_47 fl_LinkedHashMap_14 rfl e147 rfl ?_
    refine g_astore 52 rfl C dJ2_afterNodeAccess_50 (by decide) (rfl : _ = [some (vR [3] _), some (vR [5, 6, 7] _), some (vR [6, 7] _), none, some (vR [6, 7] _), some (vR [6, 7] _), some (vR [6, 7] _)]) ?_
    refine g_aload 54 rfl C dJ2_afterNodeAccess_52 rfl ?_
    refine g_null 55 rfl C dJ2_afterNodeAccess_54 ?_
    refine g_putR 58 rfl C dJ2_afterNodeAccess_55 fl_LinkedHashMap_14 rfl rfl rfl e147 rfl ?_
    have w := w _ rfl
    refine g_aload 60 rfl C dJ2_afterNodeAccess_58 rfl ?_
    refine g_ifnonnull 63 72 rfl C dJ2_afterNodeAccess_60 rfl (fun a150 u149 => ?_) (fun u149 => ?_)
    · have w := w.2 a150 u149
      refine g_aload 74 rfl C dJ2_afterNodeAccess_72 rfl ?_
      refine g_aload 76 rfl C dJ2_afterNodeAccess_74 rfl ?_
      refine g_putR 79 rfl C dJ2_afterNodeAccess_76 fl_LinkedHashMap_14 rfl rfl rfl u149 rfl ?_
      have w := w _ rfl
      refine g_sub [some none, none, some none, none, some none, some none, some none] [] rfl rfl ?_
      exact wk_J2_afterNodeAccess_b79 C Rr N _ _ _ _ _ _ w
    · have w := w.1 u149
      refine g_aload_n 64 rfl C dJ2_afterNodeAccess_63 rfl ?_
      refine g_aload 66 rfl C dJ2_afterNodeAccess_64 rfl ?_
      refine g_putR 69 rfl C dJ2_afterNodeAccess_66 fl_LinkedHashMap_7 rfl rfl rfl e143 rfl ?_
      have w := w _ rfl
      refine g_goto 79 C dJ2_afterNodeAccess_69 rfl ?_
      refine g_sub [some none, none, some none, none, some none, some none, some none] [] rfl rfl ?_
      exact wk_J2_afterNodeAccess_b79 C Rr N _ _ _ _ _ _ w
def wp_J2_afterNodeAccess (h : Hp) (x0 : Option Nat) (x1 : Option Nat) (K : Hp → Prop) : Prop :=
  (∃ a118, x0 = some a118 ∧ (((it h 22 a118) = 2 → (wp_J2_afterNodeAccess_b22 K h x0 x1)) ∧ (¬ (it h 22 a118) = 2 → ((¬ (it h 22 a118) = 0 → (wp_J2_afterNodeAccess_b141 K h x0 x1)) ∧ ((it h 22 a118) = 0 → ((it h 21 a118) = 0 ∨ (it h 21 a118) = 1 → (((it h 21 a118) = 0 → (wp_J2_afterNodeAccess_b141 K h x0 x1)) ∧ (¬ (it h 21 a118) = 0 → (wp_J2_afterNodeAccess_b22 K h x0 x1)))))))))
set_option maxHeartbeats 4000000 in
theorem wk_J2_afterNodeAccess {X : Fx} {K : Hp → Prop} (C : Cx X cJ2_afterNodeAccess yJ2_afterNodeAccess.cls 7 2) (Rr : Rx X (Option.none : Option Jvm.ClassFile.FieldType) (pV K)) (N : Nm X yJ2_afterNodeAccess.name) (h : Hp) (x0 : Option Nat) (x1 : Option Nat) (w : wp_J2_afterNodeAccess h x0 x1 K) : Gd X h 0 [some (vR [3] x0), some (vR [5, 6, 7] x1), none, none, none, none, none] [] := by
  unfold wp_J2_afterNodeAccess at w
  refine g_aload_n 1 rfl C dJ2_afterNodeAccess_0 rfl ?_
  obtain ⟨a118, e119, w⟩ := w
  refine g_getI 4 rfl C dJ2_afterNodeAccess_1 fl_LinkedHashMap_1 rfl e119 rfl ?_
  refine g_iconst 5 rfl C dJ2_afterNodeAccess_4 2 rfl ?_
  refine g_icmp_eq 8 22 rfl C dJ2_afterNodeAccess_5 rfl (fun u120 => ?_) (fun u120 => ?_)
  · have w := w.1 u120
    refine g_sub [some none, some none, none, none, none, none, none] [] rfl rfl ?_
    exact wk_J2_afterNodeAccess_b22 C Rr N _ _ _ w
  · have w := w.2 u120
    refine g_aload_n 9 rfl C dJ2_afterNodeAccess_8 rfl ?_
    refine g_getI 12 rfl C dJ2_afterNodeAccess_9 fl_LinkedHashMap_1 rfl e119 rfl ?_
    refine g_if_ne 15 141 rfl C dJ2_afterNodeAccess_12 rfl (fun u121 => ?_) (fun u121 => ?_)
    · have w := w.1 u121
      refine g_sub [some none, some none, none, none, none, none, none] [] rfl rfl ?_
      exact wk_J2_afterNodeAccess_b141 C Rr N _ _ _ w
    · have w := w.2 u121
      refine g_aload_n 16 rfl C dJ2_afterNodeAccess_15 rfl ?_
      refine g_getZ 19 rfl C dJ2_afterNodeAccess_16 fl_LinkedHashMap_64 rfl e119 rfl (fun z122 => ?_)
      have w := w z122
      refine g_if_eq 22 141 rfl C dJ2_afterNodeAccess_19 rfl (fun u123 => ?_) (fun u123 => ?_)
      · have w := w.1 u123
        refine g_sub [some none, some none, none, none, none, none, none] [] rfl rfl ?_
        exact wk_J2_afterNodeAccess_b141 C Rr N _ _ _ w
      · have w := w.2 u123
        refine g_sub [some none, some none, none, none, none, none, none] [] rfl rfl ?_
        exact wk_J2_afterNodeAccess_b22 C Rr N _ _ _ w
theorem ct_J2_afterNodeAccess {E : Gx} (GE : Glob E) {h : Hp} {x0 : Option Nat} {x1 : Option Nat} {K : Hp → Prop} (w : wp_J2_afterNodeAccess h x0 x1 K) : Ct E yJ2_afterNodeAccess cJ2_afterNodeAccess 7 (Option.none : Option Jvm.ClassFile.FieldType) 2 [vR [3] x0, vR [5, 6, 7] x1] h (pV K) :=
  Ct.of GE (by decide +kernel) (by simp [lvA, t2]) rfl (fun X hX C Rr N => wk_J2_afterNodeAccess C Rr N h x0 x1 w)
def wp_J2_get_b24 (K : Option Nat → Hp → Prop) (h : Hp) (l2 : Option Nat) : Prop :=
  (∃ a23, l2 = some a23 ∧ (K (rf h 2 a23) h))
set_option maxHeartbeats 4000000 in
theorem wk_J2_get_b24 {X : Fx} {K : Option Nat → Hp → Prop} (C : Cx X cJ2_get yJ2_get.cls 3 7) (Rr : Rx X (Option.some (Jvm.ClassFile.FieldType.object "java/lang/Object")) (pR [4, 60] K)) (N : Nm X yJ2_get.name) (h : Hp) (l2 : Option Nat) (w : wp_J2_get_b24 K h l2) : Gd X h 24 [none, none, some (vR [5, 6, 7] l2)] [] := by
  unfold wp_J2_get_b24 at w
  refine g_aload_n 25 rfl C dJ2_get_24 rfl ?_
  obtain ⟨a23, e24, w⟩ := w
  refine g_getR 28 rfl C dJ2_get_25 fl_LinkedHashMap_107 rfl e24 rfl ?_
  exact g_areturn [4, 60] C Rr rfl dJ2_get_28 rfl ⟨_, rfl, w⟩
def wp_J2_get (h : Hp) (x0 : Option Nat) (x1 : Option Nat) (K : Option Nat → Hp → Prop) : Prop :=
  (∃ a25, x0 = some a25 ∧ (wp_J1_getNode h x0 x1 (fun r28 h29 => Ex h h29 → ((r28 = none → (K none h29)) ∧ (∀ a33, r28 = some a33 → ((it h29 21 a25) = 0 ∨ (it h29 21 a25) = 1 → (((it h29 21 a25) = 0 → (wp_J2_get_b24 K h29 r28)) ∧ (¬ (it h29 21 a25) = 0 → (wp_J2_afterNodeAccess h29 x0 r28 (fun h38 => Ex h29 h38 → (wp_J2_get_b24 K h38 r28)))))))))))
set_option maxHeartbeats 4000000 in
theorem wk_J2_get {X : Fx} {K : Option Nat → Hp → Prop} (C : Cx X cJ2_get yJ2_get.cls 3 7) (Rr : Rx X (Option.some (Jvm.ClassFile.FieldType.object "java/lang/Object")) (pR [4, 60] K)) (N : Nm X yJ2_get.name) (h : Hp) (x0 : Option Nat) (x1 : Option Nat) (w : wp_J2_get h x0 x1 K) : Gd X h 0 [some (vR [3] x0), some (vR [4, 60] x1), none] [] := by
  unfold wp_J2_get at w
  refine g_aload_n 1 rfl C dJ2_get_0 rfl ?_
  refine g_aload_n 2 rfl C dJ2_get_1 rfl ?_
  obtain ⟨a25, e26, w⟩ := w
  refine g_known 1 rfl e26 (fun k27 => ?_)
  refine g_sub [some none, some none, none] [none, some [2, 3]] rfl rfl ?_
  refine g_callU (As := [vR [4, 60] _]) (T := [2, 3]) (st := []) "java/util/LinkedHashMap" 5 rfl C dJ2_get_2 q509 q510 dcl_88e38d q512 q513 q11 q514 okn_d1b03f (by decide) (by decide) (Nat.le_of_ble_eq_true rfl) e26 (fun _ => tC rfl k27) rfl (ct_J1_getNode C.glob w) (fun r0 h29 p30 x31 _ => ?_)
  obtain ⟨r28, rfl, w⟩ := p30
  have w := w x31
  change Gd _ _ _ _ (vR [5, 6, 7] r28 :: [])
  refine g_dup 6 rfl C dJ2_get_5 rfl ?_
  refine g_astore_n 7 rfl C dJ2_get_6 (by decide) (rfl : _ = [some (vR [3] _), some (vR [4, 60] _), some (vR [5, 6, 7] _)]) ?_
  refine g_ifnonnull 10 12 rfl C dJ2_get_7 rfl (fun a33 u32 => ?_) (fun u32 => ?_)
  · have w := w.2 a33 u32
    refine g_aload_n 13 rfl C dJ2_get_12 rfl ?_
    refine g_getZ 16 rfl C dJ2_get_13 fl_LinkedHashMap_64 rfl e26 rfl (fun z34 => ?_)
    have w := w z34
    refine g_if_eq 19 24 rfl C dJ2_get_16 rfl (fun u35 => ?_) (fun u35 => ?_)
    · have w := w.1 u35
      refine g_sub [none, none, some none] [] rfl rfl ?_
      exact wk_J2_get_b24 C Rr N _ _ w
    · have w := w.2 u35
      refine g_aload_n 20 rfl C dJ2_get_19 rfl ?_
      refine g_aload_n 21 rfl C dJ2_get_20 rfl ?_
      refine g_callV (As := [vR [5, 6, 7] _]) (T := [3]) (st := []) "java/util/LinkedHashMap" 24 rfl C dJ2_get_21 q519 q467 q1283 q12 q468 rfl okn_c1920f (by decide) (by decide) (Nat.le_of_ble_eq_true rfl) e26 (fun q => tC rfl q) rfl (ct_J2_afterNodeAccess C.glob w) (fun r0 h38 p39 x40 _ => ?_)
      obtain ⟨rfl, w⟩ := p39
      have w := w x40
      change Gd _ _ _ _ []
      refine g_sub [none, none, some none] [] rfl rfl ?_
      exact wk_J2_get_b24 C Rr N _ _ w
  · have w := w.1 u32
    refine g_null 11 rfl C dJ2_get_10 ?_
    exact g_areturn [4, 60] C Rr rfl dJ2_get_11 rfl ⟨_, rfl, w⟩
theorem ct_J2_get {E : Gx} (GE : Glob E) {h : Hp} {x0 : Option Nat} {x1 : Option Nat} {K : Option Nat → Hp → Prop} (w : wp_J2_get h x0 x1 K) : Ct E yJ2_get cJ2_get 3 (Option.some (Jvm.ClassFile.FieldType.object "java/lang/Object")) 7 [vR [3] x0, vR [4, 60] x1] h (pR [4, 60] K) :=
  Ct.of GE (by decide +kernel) (by simp [lvA, t2]) rfl (fun X hX C Rr N => wk_J2_get C Rr N h x0 x1 w)
def wp_J23_init (h : Hp) (x0 : Option Nat) (x1 : Option Nat) (x2 : Int32) (K : Hp → Prop) : Prop :=
  (∃ a15, x0 = some a15 ∧ (∀ h17, h17 = wR h 30 a15 x1 → (wp_J12_init h17 x0 (fun h20 => Ex h17 h20 → ((x2 = 0 ∨ x2 = 1) ∧ (∀ h23, h23 = wI h20 29 a15 x2 → (K h23)))))))
set_option maxHeartbeats 4000000 in
theorem wk_J23_init {X : Fx} {K : Hp → Prop} (C : Cx X cJ23_init yJ23_init.cls 3 4) (Rr : Rx X (Option.none : Option Jvm.ClassFile.FieldType) (pV K)) (N : Nm X yJ23_init.name) (h : Hp) (x0 : Option Nat) (x1 : Option Nat) (x2 : Int32) (w : wp_J23_init h x0 x1 x2 K) : Gd X h 0 [some (vR [10] x0), some (vR [3] x1), some (vI x2)] [] := by
  unfold wp_J23_init at w
  refine g_aload_n 1 rfl C dJ23_init_0 rfl ?_
  refine g_aload_n 2 rfl C dJ23_init_1 rfl ?_
  obtain ⟨a15, e16, w⟩ := w
  refine g_putRF 5 rfl C N dJ23_init_2 fl_LinkedHashMap_LinkedEntrySet_1 ⟨rfl, rfl⟩ rfl rfl e16 rfl ?_
  have w := w _ rfl
  refine g_aload_n 6 rfl C dJ23_init_5 rfl ?_
  refine g_sub [some none, some none, some none] [some [8, 9, 10]] rfl rfl ?_
  refine g_callI (As := []) (T := [8, 9, 10]) (st := []) 9 rfl C dJ23_init_6 q930 q641 q26 q642 rfl okn_08ccbc (by decide) (by decide) (Nat.le_of_ble_eq_true rfl) e16 rfl (ct_J12_init C.glob w) (fun r0 h20 p21 x22 _ => ?_)
  obtain ⟨rfl, w⟩ := p21
  have w := w x22
  change Gd _ _ _ _ []
  refine g_aload_n 10 rfl C dJ23_init_9 rfl ?_
  refine g_iload_n 11 rfl C dJ23_init_10 rfl ?_
  obtain ⟨z24, w⟩ := w
  refine g_putZF 14 rfl C N dJ23_init_11 fl_LinkedHashMap_LinkedEntrySet_13 ⟨rfl, rfl⟩ rfl z24 e16 rfl ?_
  have w := w _ rfl
  exact g_vreturn C Rr dJ23_init_14 ⟨rfl, w⟩
theorem ct_J23_init {E : Gx} (GE : Glob E) {h : Hp} {x0 : Option Nat} {x1 : Option Nat} {x2 : Int32} {K : Hp → Prop} (w : wp_J23_init h x0 x1 x2 K) : Ct E yJ23_init cJ23_init 3 (Option.none : Option Jvm.ClassFile.FieldType) 4 [vR [10] x0, vR [3] x1, vI x2] h (pV K) :=
  Ct.of GE (by decide +kernel) (by simp [lvA, t2]) rfl (fun X hX C Rr N => wk_J23_init C Rr N h x0 x1 x2 w)
def wp_J2_sequencedEntrySet (h : Hp) (x0 : Option Nat) (K : Option Nat → Hp → Prop) : Prop :=
  (∃ a20, x0 = some a20 ∧ (((rf h 14 a20) = none → (Rm h 1 2 ∧ ∀ a24, kd h a24 = 0 → ∀ h25, h25 = nw h a24 10 0 → (wp_J23_init h25 (some a24) x0 0 (fun h30 => Ex h25 h30 → (∀ h33, h33 = wR h30 14 a20 (some a24) → (K (some a24) h33)))))) ∧ (∀ a23, (rf h 14 a20) = some a23 → ((∀ a, (rf h 14 a20) = some a → kd h a ∈ [10]) ∧ (K (rf h 14 a20) h)))))
set_option maxHeartbeats 4000000 in
theorem wk_J2_sequencedEntrySet {X : Fx} {K : Option Nat → Hp → Prop} (C : Cx X cJ2_sequencedEntrySet yJ2_sequencedEntrySet.cls 3 5) (Rr : Rx X (Option.some (Jvm.ClassFile.FieldType.object "java/util/SequencedSet")) (pR [10] K)) (N : Nm X yJ2_sequencedEntrySet.name) (h : Hp) (x0 : Option Nat) (w : wp_J2_sequencedEntrySet h x0 K) : Gd X h 0 [some (vR [3] x0), none, none] [] := by
  unfold wp_J2_sequencedEntrySet at w
  refine g_aload_n 1 rfl C dJ2_sequencedEntrySet_0 rfl ?_
  obtain ⟨a20, e21, w⟩ := w
  refine g_getR 4 rfl C dJ2_sequencedEntrySet_1 fl_LinkedHashMap_151 rfl e21 rfl ?_
  refine g_astore_n 5 rfl C dJ2_sequencedEntrySet_4 (by decide) (rfl : _ = [some (vR [3] _), some (vR [9, 10] _), none]) ?_
  refine g_aload_n 6 rfl C dJ2_sequencedEntrySet_5 rfl ?_
  refine g_ifnonnull 9 26 rfl C dJ2_sequencedEntrySet_6 rfl (fun a23 u22 => ?_) (fun u22 => ?_)
  · have w := w.2 a23 u22
    refine g_aload_n 27 rfl C dJ2_sequencedEntrySet_26 rfl ?_
    obtain ⟨k34, w⟩ := w
    refine g_cast [10] 30 rfl C dJ2_sequencedEntrySet_27 q654 co_SequencedSet_10 (fun a q _ => k34 a q) ?_
    exact g_areturn [10] C Rr rfl dJ2_sequencedEntrySet_30 rfl ⟨_, rfl, w⟩
  · have w := w.1 u22
    obtain ⟨r26, w⟩ := w
    refine g_new 10 12 rfl C dJ2_sequencedEntrySet_9 rfl q925 q926 q38 r26 (fun a24 z27 => ?_)
    have w := w a24 z27 _ rfl
    refine g_dup 13 rfl C dJ2_sequencedEntrySet_12 rfl ?_
    refine g_aload_n 14 rfl C dJ2_sequencedEntrySet_13 rfl ?_
    refine g_iconst 15 rfl C dJ2_sequencedEntrySet_14 0 rfl ?_
    refine g_callI (As := [vR [3] _, vI _]) (T := [10]) (st := [vR [10] _]) 18 rfl C dJ2_sequencedEntrySet_15 q927 q928 q38 q929 rfl okn_540709 (by decide) (by decide) (Nat.le_of_ble_eq_true rfl) rfl rfl (ct_J23_init C.glob w) (fun r0 h30 p31 x32 _ => ?_)
    obtain ⟨rfl, w⟩ := p31
    have w := w x32
    change Gd _ _ _ _ [vR [10] _]
    refine g_astore_n 19 rfl C dJ2_sequencedEntrySet_18 (by decide) (rfl : _ = [some (vR [3] _), some (vR [9, 10] _), some (vR [10] _)]) ?_
    refine g_aload_n 20 rfl C dJ2_sequencedEntrySet_19 rfl ?_
    refine g_aload_n 21 rfl C dJ2_sequencedEntrySet_20 rfl ?_
    refine g_putR 24 rfl C dJ2_sequencedEntrySet_21 fl_LinkedHashMap_151 rfl rfl rfl e21 rfl ?_
    have w := w _ rfl
    refine g_aload_n 25 rfl C dJ2_sequencedEntrySet_24 rfl ?_
    exact g_areturn [10] C Rr rfl dJ2_sequencedEntrySet_25 rfl ⟨_, rfl, w⟩
theorem ct_J2_sequencedEntrySet {E : Gx} (GE : Glob E) {h : Hp} {x0 : Option Nat} {K : Option Nat → Hp → Prop} (w : wp_J2_sequencedEntrySet h x0 K) : Ct E yJ2_sequencedEntrySet cJ2_sequencedEntrySet 3 (Option.some (Jvm.ClassFile.FieldType.object "java/util/SequencedSet")) 5 [vR [3] x0] h (pR [10] K) :=
  Ct.of GE (by decide +kernel) (by simp [lvA, t2]) rfl (fun X hX C Rr N => wk_J2_sequencedEntrySet C Rr N h x0 w)
def wp_J2_entrySet (h : Hp) (x0 : Option Nat) (K : Option Nat → Hp → Prop) : Prop :=
  (∃ a8, x0 = some a8 ∧ (wp_J2_sequencedEntrySet h x0 (fun r11 h12 => Ex h h12 → (K r11 h12))))
set_option maxHeartbeats 4000000 in
theorem wk_J2_entrySet {X : Fx} {K : Option Nat → Hp → Prop} (C : Cx X cJ2_entrySet yJ2_entrySet.cls 1 6) (Rr : Rx X (Option.some (Jvm.ClassFile.FieldType.object "java/util/Set")) (pR [8, 9, 10] K)) (N : Nm X yJ2_entrySet.name) (h : Hp) (x0 : Option Nat) (w : wp_J2_entrySet h x0 K) : Gd X h 0 [some (vR [3] x0)] [] := by
  unfold wp_J2_entrySet at w
  refine g_aload_n 1 rfl C dJ2_entrySet_0 rfl ?_
  obtain ⟨a8, e9, w⟩ := w
  refine g_callV (As := []) (T := [3]) (st := []) "java/util/LinkedHashMap" 4 rfl C dJ2_entrySet_1 q921 q922 q923 q12 q924 rfl okn_4006f5 (by decide) (by decide) (Nat.le_of_ble_eq_true rfl) e9 (fun q => tC rfl q) rfl (ct_J2_sequencedEntrySet C.glob w) (fun r0 h12 p13 x14 _ => ?_)
  obtain ⟨r11, rfl, w⟩ := p13
  have w := w x14
  change Gd _ _ _ _ (vR [10] r11 :: [])
  exact g_areturn [8, 9, 10] C Rr rfl dJ2_entrySet_4 rfl ⟨_, rfl, w⟩
theorem ct_J2_entrySet {E : Gx} (GE : Glob E) {h : Hp} {x0 : Option Nat} {K : Option Nat → Hp → Prop} (w : wp_J2_entrySet h x0 K) : Ct E yJ2_entrySet cJ2_entrySet 1 (Option.some (Jvm.ClassFile.FieldType.object "java/util/Set")) 6 [vR [3] x0] h (pR [8, 9, 10] K) :=
  Ct.of GE (by decide +kernel) (by simp [lvA, t2]) rfl (fun X hX C Rr N => wk_J2_entrySet C Rr N h x0 w)
def wp_J16_init (h : Hp) (x0 : Option Nat) (x1 : Option Nat) (K : Hp → Prop) : Prop :=
  (∃ a8, x0 = some a8 ∧ (wp_J15_init h x0 x1 (fun h12 => Ex h h12 → (K h12))))
set_option maxHeartbeats 4000000 in
theorem wk_J16_init {X : Fx} {K : Hp → Prop} (C : Cx X cJ16_init yJ16_init.cls 2 3) (Rr : Rx X (Option.none : Option Jvm.ClassFile.FieldType) (pV K)) (N : Nm X yJ16_init.name) (h : Hp) (x0 : Option Nat) (x1 : Option Nat) (w : wp_J16_init h x0 x1 K) : Gd X h 0 [some (vR [12] x0), some (vR [2, 3] x1)] [] := by
  unfold wp_J16_init at w
  refine g_aload_n 1 rfl C dJ16_init_0 rfl ?_
  refine g_aload_n 2 rfl C dJ16_init_1 rfl ?_
  obtain ⟨a8, e9, w⟩ := w
  refine g_sub [some none, some none] [none, some [11, 12]] rfl rfl ?_
  refine g_callI (As := [vR [2, 3] _]) (T := [11, 12]) (st := []) 5 rfl C dJ16_init_2 q681 q682 q29 q683 rfl okn_1af03d (by decide) (by decide) (Nat.le_of_ble_eq_true rfl) e9 rfl (ct_J15_init C.glob w) (fun r0 h12 p13 x14 _ => ?_)
  obtain ⟨rfl, w⟩ := p13
  have w := w x14
  change Gd _ _ _ _ []
  exact g_vreturn C Rr dJ16_init_5 ⟨rfl, w⟩
theorem ct_J16_init {E : Gx} (GE : Glob E) {h : Hp} {x0 : Option Nat} {x1 : Option Nat} {K : Hp → Prop} (w : wp_J16_init h x0 x1 K) : Ct E yJ16_init cJ16_init 2 (Option.none : Option Jvm.ClassFile.FieldType) 3 [vR [12] x0, vR [2, 3] x1] h (pV K) :=
  Ct.of GE (by decide +kernel) (by simp [lvA, t2]) rfl (fun X hX C Rr N => wk_J16_init C Rr N h x0 x1 w)
def wp_J22_iterator (h : Hp) (x0 : Option Nat) (K : Option Nat → Hp → Prop) : Prop :=
  (Rm h 1 5 ∧ ∀ a14, kd h a14 = 0 → ∀ h15, h15 = nw h a14 12 0 → (∃ a18, x0 = some a18 ∧ (wp_J16_init h15 (some a14) (rf h15 28 a18) (fun h22 => Ex h15 h22 → (K (some a14) h22)))))
set_option maxHeartbeats 4000000 in
theorem wk_J22_iterator {X : Fx} {K : Option Nat → Hp → Prop} (C : Cx X cJ22_iterator yJ22_iterator.cls 1 4) (Rr : Rx X (Option.some (Jvm.ClassFile.FieldType.object "java/util/Iterator")) (pR [11, 12, 13] K)) (N : Nm X yJ22_iterator.name) (h : Hp) (x0 : Option Nat) (w : wp_J22_iterator h x0 K) : Gd X h 0 [some (vR [9] x0)] [] := by
  unfold wp_J22_iterator at w
  obtain ⟨r16, w⟩ := w
  refine g_new 12 3 rfl C dJ22_iterator_0 rfl q676 q677 q30 r16 (fun a14 z17 => ?_)
  have w := w a14 z17 _ rfl
  refine g_dup 4 rfl C dJ22_iterator_3 rfl ?_
  refine g_aload_n 5 rfl C dJ22_iterator_4 rfl ?_
  obtain ⟨a18, e19, w⟩ := w
  refine g_getR 8 rfl C dJ22_iterator_5 fl_HashMap_EntrySet_1 rfl e19 rfl ?_
  refine g_callI (As := [vR [2, 3] _]) (T := [12]) (st := [vR [12] _]) 11 rfl C dJ22_iterator_8 q678 q679 q30 q680 rfl okn_b9db84 (by decide) (by decide) (Nat.le_of_ble_eq_true rfl) rfl rfl (ct_J16_init C.glob w) (fun r0 h22 p23 x24 _ => ?_)
  obtain ⟨rfl, w⟩ := p23
  have w := w x24
  change Gd _ _ _ _ [vR [12] _]
  exact g_areturn [11, 12, 13] C Rr rfl dJ22_iterator_11 rfl ⟨_, rfl, w⟩
theorem ct_J22_iterator {E : Gx} (GE : Glob E) {h : Hp} {x0 : Option Nat} {K : Option Nat → Hp → Prop} (w : wp_J22_iterator h x0 K) : Ct E yJ22_iterator cJ22_iterator 1 (Option.some (Jvm.ClassFile.FieldType.object "java/util/Iterator")) 4 [vR [9] x0] h (pR [11, 12, 13] K) :=
  Ct.of GE (by decide +kernel) (by simp [lvA, t2]) rfl (fun X hX C Rr N => wk_J22_iterator C Rr N h x0 w)
