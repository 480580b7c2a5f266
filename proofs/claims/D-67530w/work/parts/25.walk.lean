/-! WALKS (printed by emit.py): J2_init J2_init_2 J2_getOrDefault J2_containsValue J2_clear J21_floorOrCeil J21_ceil J5_longValue J6_setValue J9_copyOf X0_init X0_map X0_told X0_put X0_add X0_get X0_give X0_remove X0_take X0_has X0_size X0_clear X0_hasAll -/
set_option maxRecDepth 100000
def wp_J2_init (h : Hp) (x0 : Option Nat) (K : Hp → Prop) : Prop :=
  (∃ a15, x0 = some a15 ∧ (wp_J1_init h x0 (fun h19 => Ex h h19 → (∀ h22, h22 = wI h19 22 a15 0 → (∀ h23, h23 = wI h22 21 a15 0 → (K h23))))))
set_option maxHeartbeats 4000000 in
theorem wk_J2_init {X : Fx} {K : Hp → Prop} (C : Cx X cJ2_init yJ2_init.cls 1 4) (Rr : Rx X (Option.none : Option Jvm.ClassFile.FieldType) (pV K)) (N : Nm X yJ2_init.name) (h : Hp) (x0 : Option Nat) (w : wp_J2_init h x0 K) : Gd X h 0 [some (vR [3] x0)] [] := by
  unfold wp_J2_init at w
  refine g_aload_n 1 rfl C dJ2_init_0 rfl ?_
  obtain ⟨a15, e16, w⟩ := w
  refine g_sub [some none] [some [2, 3]] rfl rfl ?_
  refine g_callI (As := []) (T := [2, 3]) (st := []) 4 rfl C dJ2_init_1 q102 q50 q11 q51 rfl okn_f6ee4b (by decide) (by decide) (Nat.le_of_ble_eq_true rfl) e16 rfl (ct_J1_init C.glob w) (fun r0 h19 p20 x21 _ => ?_)
  obtain ⟨rfl, w⟩ := p20
  have w := w x21
  change Gd _ _ _ _ []
  refine g_aload_n 5 rfl C dJ2_init_4 rfl ?_
  refine g_iconst 6 rfl C dJ2_init_5 0 rfl ?_
  refine g_putI 9 rfl C dJ2_init_6 fl_LinkedHashMap_1 rfl rfl e16 rfl ?_
  have w := w _ rfl
  refine g_aload_n 10 rfl C dJ2_init_9 rfl ?_
  refine g_iconst 11 rfl C dJ2_init_10 0 rfl ?_
  refine g_putZF 14 rfl C N dJ2_init_11 fl_LinkedHashMap_64 ⟨rfl, rfl⟩ rfl (Or.inl rfl) e16 rfl ?_
  have w := w _ rfl
  exact g_vreturn C Rr dJ2_init_14 ⟨rfl, w⟩
theorem ct_J2_init {E : Gx} (GE : Glob E) {h : Hp} {x0 : Option Nat} {K : Hp → Prop} (w : wp_J2_init h x0 K) : Ct E yJ2_init cJ2_init 1 (Option.none : Option Jvm.ClassFile.FieldType) 4 [vR [3] x0] h (pV K) :=
  Ct.of GE (by decide +kernel) (by simp [lvA, t2]) rfl (fun X hX C Rr N => wk_J2_init C Rr N h x0 w)
def wp_J2_init_2 (h : Hp) (x0 : Option Nat) (x1 : Int32) (x2 : UInt32) (x3 : Int32) (K : Hp → Prop) : Prop :=
  (∃ a15, x0 = some a15 ∧ (wp_J1_init_2 h x0 x1 x2 (fun h19 => Ex h h19 → (∀ h22, h22 = wI h19 22 a15 0 → ((x3 = 0 ∨ x3 = 1) ∧ (∀ h23, h23 = wI h22 21 a15 x3 → (K h23)))))))
set_option maxHeartbeats 4000000 in
theorem wk_J2_init_2 {X : Fx} {K : Hp → Prop} (C : Cx X cJ2_init_2 yJ2_init_2.cls 4 5) (Rr : Rx X (Option.none : Option Jvm.ClassFile.FieldType) (pV K)) (N : Nm X yJ2_init_2.name) (h : Hp) (x0 : Option Nat) (x1 : Int32) (x2 : UInt32) (x3 : Int32) (w : wp_J2_init_2 h x0 x1 x2 x3 K) : Gd X h 0 [some (vR [3] x0), some (vI x1), some (vF x2), some (vI x3)] [] := by
  unfold wp_J2_init_2 at w
  refine g_aload_n 1 rfl C dJ2_init_2_0 rfl ?_
  refine g_iload_n 2 rfl C dJ2_init_2_1 rfl ?_
  refine g_fload_n 3 rfl C dJ2_init_2_2 rfl ?_
  obtain ⟨a15, e16, w⟩ := w
  refine g_sub [some none, some none, some none, some none] [none, none, some [2, 3]] rfl rfl ?_
  refine g_callI (As := [vI _, vF _]) (T := [2, 3]) (st := []) 6 rfl C dJ2_init_2_3 q130 q131 q11 q132 rfl okn_6a3e02 (by decide) (by decide) (Nat.le_of_ble_eq_true rfl) e16 rfl (ct_J1_init_2 C.glob w) (fun r0 h19 p20 x21 _ => ?_)
  obtain ⟨rfl, w⟩ := p20
  have w := w x21
  change Gd _ _ _ _ []
  refine g_aload_n 7 rfl C dJ2_init_2_6 rfl ?_
  refine g_iconst 8 rfl C dJ2_init_2_7 0 rfl ?_
  refine g_putI 11 rfl C dJ2_init_2_8 fl_LinkedHashMap_1 rfl rfl e16 rfl ?_
  have w := w _ rfl
  refine g_aload_n 12 rfl C dJ2_init_2_11 rfl ?_
  refine g_iload_n 13 rfl C dJ2_init_2_12 rfl ?_
  obtain ⟨z24, w⟩ := w
  refine g_putZF 16 rfl C N dJ2_init_2_13 fl_LinkedHashMap_64 ⟨rfl, rfl⟩ rfl z24 e16 rfl ?_
  have w := w _ rfl
  exact g_vreturn C Rr dJ2_init_2_16 ⟨rfl, w⟩
theorem ct_J2_init_2 {E : Gx} (GE : Glob E) {h : Hp} {x0 : Option Nat} {x1 : Int32} {x2 : UInt32} {x3 : Int32} {K : Hp → Prop} (w : wp_J2_init_2 h x0 x1 x2 x3 K) : Ct E yJ2_init_2 cJ2_init_2 4 (Option.none : Option Jvm.ClassFile.FieldType) 5 [vR [3] x0, vI x1, vF x2, vI x3] h (pV K) :=
  Ct.of GE (by decide +kernel) (by simp [lvA, t2]) rfl (fun X hX C Rr N => wk_J2_init_2 C Rr N h x0 x1 x2 x3 w)
def wp_J2_getOrDefault_b24 (K : Option Nat → Hp → Prop) (h : Hp) (l3 : Option Nat) : Prop :=
  (∃ a23, l3 = some a23 ∧ (K (rf h 2 a23) h))
set_option maxHeartbeats 4000000 in
theorem wk_J2_getOrDefault_b24 {X : Fx} {K : Option Nat → Hp → Prop} (C : Cx X cJ2_getOrDefault yJ2_getOrDefault.cls 4 7) (Rr : Rx X (Option.some (Jvm.ClassFile.FieldType.object "java/lang/Object")) (pR [4, 60] K)) (N : Nm X yJ2_getOrDefault.name) (h : Hp) (l3 : Option Nat) (w : wp_J2_getOrDefault_b24 K h l3) : Gd X h 24 [none, none, none, some (vR [5, 6, 7] l3)] [] := by
  unfold wp_J2_getOrDefault_b24 at w
  refine g_aload_n 25 rfl C dJ2_getOrDefault_24 rfl ?_
  obtain ⟨a23, e24, w⟩ := w
  refine g_getR 28 rfl C dJ2_getOrDefault_25 fl_LinkedHashMap_107 rfl e24 rfl ?_
  exact g_areturn [4, 60] C Rr rfl dJ2_getOrDefault_28 rfl ⟨_, rfl, w⟩
def wp_J2_getOrDefault (h : Hp) (x0 : Option Nat) (x1 : Option Nat) (x2 : Option Nat) (K : Option Nat → Hp → Prop) : Prop :=
  (∃ a25, x0 = some a25 ∧ (wp_J1_getNode h x0 x1 (fun r28 h29 => Ex h h29 → ((r28 = none → (K x2 h29)) ∧ (∀ a33, r28 = some a33 → ((it h29 21 a25) = 0 ∨ (it h29 21 a25) = 1 → (((it h29 21 a25) = 0 → (wp_J2_getOrDefault_b24 K h29 r28)) ∧ (¬ (it h29 21 a25) = 0 → (wp_J2_afterNodeAccess h29 x0 r28 (fun h38 => Ex h29 h38 → (wp_J2_getOrDefault_b24 K h38 r28)))))))))))
set_option maxHeartbeats 4000000 in
theorem wk_J2_getOrDefault {X : Fx} {K : Option Nat → Hp → Prop} (C : Cx X cJ2_getOrDefault yJ2_getOrDefault.cls 4 7) (Rr : Rx X (Option.some (Jvm.ClassFile.FieldType.object "java/lang/Object")) (pR [4, 60] K)) (N : Nm X yJ2_getOrDefault.name) (h : Hp) (x0 : Option Nat) (x1 : Option Nat) (x2 : Option Nat) (w : wp_J2_getOrDefault h x0 x1 x2 K) : Gd X h 0 [some (vR [3] x0), some (vR [4, 60] x1), some (vR [4, 60] x2), none] [] := by
  unfold wp_J2_getOrDefault at w
  refine g_aload_n 1 rfl C dJ2_getOrDefault_0 rfl ?_
  refine g_aload_n 2 rfl C dJ2_getOrDefault_1 rfl ?_
  obtain ⟨a25, e26, w⟩ := w
  refine g_known 1 rfl e26 (fun k27 => ?_)
  refine g_sub [some none, some none, some none, none] [none, some [2, 3]] rfl rfl ?_
  refine g_callU (As := [vR [4, 60] _]) (T := [2, 3]) (st := []) "java/util/LinkedHashMap" 5 rfl C dJ2_getOrDefault_2 q509 q510 dcl_88e38d q512 q513 q11 q514 okn_d1b03f (by decide) (by decide) (Nat.le_of_ble_eq_true rfl) e26 (fun _ => tC rfl k27) rfl (ct_J1_getNode C.glob w) (fun r0 h29 p30 x31 _ => ?_)
  obtain ⟨r28, rfl, w⟩ := p30
  have w := w x31
  change Gd _ _ _ _ (vR [5, 6, 7] r28 :: [])
  refine g_dup 6 rfl C dJ2_getOrDefault_5 rfl ?_
  refine g_astore_n 7 rfl C dJ2_getOrDefault_6 (by decide) (rfl : _ = [some (vR [3] _), some (vR [4, 60] _), some (vR [4, 60] _), some (vR [5, 6, 7] _)]) ?_
  refine g_ifnonnull 10 12 rfl C dJ2_getOrDefault_7 rfl (fun a33 u32 => ?_) (fun u32 => ?_)
  · have w := w.2 a33 u32
    refine g_aload_n 13 rfl C dJ2_getOrDefault_12 rfl ?_
    refine g_getZ 16 rfl C dJ2_getOrDefault_13 fl_LinkedHashMap_64 rfl e26 rfl (fun z34 => ?_)
    have w := w z34
    refine g_if_eq 19 24 rfl C dJ2_getOrDefault_16 rfl (fun u35 => ?_) (fun u35 => ?_)
    · have w := w.1 u35
      refine g_sub [none, none, none, some none] [] rfl rfl ?_
      exact wk_J2_getOrDefault_b24 C Rr N _ _ w
    · have w := w.2 u35
      refine g_aload_n 20 rfl C dJ2_getOrDefault_19 rfl ?_
      refine g_aload_n 21 rfl C dJ2_getOrDefault_20 rfl ?_
      refine g_callV (As := [vR [5, 6, 7] _]) (T := [3]) (st := []) "java/util/LinkedHashMap" 24 rfl C dJ2_getOrDefault_21 q519 q467 q1283 q12 q468 rfl okn_c1920f (by decide) (by decide) (Nat.le_of_ble_eq_true rfl) e26 (fun q => tC rfl q) rfl (ct_J2_afterNodeAccess C.glob w) (fun r0 h38 p39 x40 _ => ?_)
      obtain ⟨rfl, w⟩ := p39
      have w := w x40
      change Gd _ _ _ _ []
      refine g_sub [none, none, none, some none] [] rfl rfl ?_
      exact wk_J2_getOrDefault_b24 C Rr N _ _ w
  · have w := w.1 u32
    refine g_aload_n 11 rfl C dJ2_getOrDefault_10 rfl ?_
    exact g_areturn [4, 60] C Rr rfl dJ2_getOrDefault_11 rfl ⟨_, rfl, w⟩
theorem ct_J2_getOrDefault {E : Gx} (GE : Glob E) {h : Hp} {x0 : Option Nat} {x1 : Option Nat} {x2 : Option Nat} {K : Option Nat → Hp → Prop} (w : wp_J2_getOrDefault h x0 x1 x2 K) : Ct E yJ2_getOrDefault cJ2_getOrDefault 4 (Option.some (Jvm.ClassFile.FieldType.object "java/lang/Object")) 7 [vR [3] x0, vR [4, 60] x1, vR [4, 60] x2] h (pR [4, 60] K) :=
  Ct.of GE (by decide +kernel) (by simp [lvA, t2]) rfl (fun X hX C Rr N => wk_J2_getOrDefault C Rr N h x0 x1 x2 w)
def wp_J2_containsValue_b31 (K : Int32 → Hp → Prop) (h : Hp)  : Prop :=
  (K 1 h)
set_option maxHeartbeats 4000000 in
theorem wk_J2_containsValue_b31 {X : Fx} {K : Int32 → Hp → Prop} (C : Cx X cJ2_containsValue yJ2_containsValue.cls 4 4) (Rr : Rx X (Option.some Jvm.ClassFile.FieldType.boolean) (pI K)) (N : Nm X yJ2_containsValue.name) (h : Hp)  (w : wp_J2_containsValue_b31 K h ) : Gd X h 31 [none, none, none, none] [] := by
  unfold wp_J2_containsValue_b31 at w
  refine g_iconst 32 rfl C dJ2_containsValue_31 1 rfl ?_
  exact g_zreturn C Rr dJ2_containsValue_32 (Or.inr rfl) ⟨_, rfl, w⟩
def wp_J2_containsValue_b33 (G5 : Hp → Option Nat → Option Nat → Prop) (K : Int32 → Hp → Prop) (h : Hp) (l1 : Option Nat) (l2 : Option Nat) : Prop :=
  (∃ a22, l2 = some a22 ∧ (G5 h l1 (rf h 5 a22)))
set_option maxHeartbeats 4000000 in
theorem wk_J2_containsValue_b33 {X : Fx} {K : Int32 → Hp → Prop} (C : Cx X cJ2_containsValue yJ2_containsValue.cls 4 4) (Rr : Rx X (Option.some Jvm.ClassFile.FieldType.boolean) (pI K)) (N : Nm X yJ2_containsValue.name) {G5 : Hp → Option Nat → Option Nat → Prop} (k5 : ∀ (h : Hp) (l1 : Option Nat) (l2 : Option Nat), G5 h l1 l2 → Gd X h 5 [none, some (vR [4, 60] l1), some (vR [6, 7] l2), none] []) (h : Hp) (l1 : Option Nat) (l2 : Option Nat) (w : wp_J2_containsValue_b33 G5 K h l1 l2) : Gd X h 33 [none, some (vR [4, 60] l1), some (vR [6, 7] l2), none] [] := by
  unfold wp_J2_containsValue_b33 at w
  refine g_aload_n 34 rfl C dJ2_containsValue_33 rfl ?_
  obtain ⟨a22, e23, w⟩ := w
  refine g_getR 37 rfl C dJ2_containsValue_34 fl_LinkedHashMap_14 rfl e23 rfl ?_
  refine g_astore_n 38 rfl C dJ2_containsValue_37 (by decide) (rfl : _ = [none, some (vR [4, 60] _), some (vR [6, 7] _), none]) ?_
  refine g_goto 5 C dJ2_containsValue_38 rfl ?_
  refine g_sub [none, some none, some none, none] [] rfl rfl ?_
  exact k5 _ _ _ w
def wp_J2_containsValue_b5 (K : Int32 → Hp → Prop) : Nat → Hp → Option Nat → Option Nat → Prop
  | 0 => fun _ _ _ => False
  | m9 + 1 => fun h l1 l2 =>
    ((l2 = none → (K 0 h)) ∧ (∀ a25, l2 = some a25 → (((rf h 2 a25) = l1 → (wp_J2_containsValue_b31 K h)) ∧ (¬ (rf h 2 a25) = l1 → ((l1 = none → (wp_J2_containsValue_b33 (wp_J2_containsValue_b5 K m9) K h l1 l2)) ∧ (∀ a28, l1 = some a28 → (wp_J5_equals h l1 (rf h 2 a25) (fun r30 h31 => Ex h h31 → ((r30 = 0 → (wp_J2_containsValue_b33 (wp_J2_containsValue_b5 K m9) K h31 l1 l2)) ∧ (¬ r30 = 0 → (wp_J2_containsValue_b31 K h31)))))))))))
set_option maxHeartbeats 4000000 in
theorem wk_J2_containsValue_b5 {X : Fx} {K : Int32 → Hp → Prop} (C : Cx X cJ2_containsValue yJ2_containsValue.cls 4 4) (Rr : Rx X (Option.some Jvm.ClassFile.FieldType.boolean) (pI K)) (N : Nm X yJ2_containsValue.name) : ∀ (n : Nat) (h : Hp) (l1 : Option Nat) (l2 : Option Nat), wp_J2_containsValue_b5 K n h l1 l2 → Gd X h 5 [none, some (vR [4, 60] l1), some (vR [6, 7] l2), none] [] := by
  intro n
  induction n with
  | zero => intro h l1 l2 w; exact w.elim
  | succ n ih =>
    intro h l1 l2 w
    unfold wp_J2_containsValue_b5 at w
    refine g_aload_n 6 rfl C dJ2_containsValue_5 rfl ?_
    refine g_ifnull 9 41 rfl C dJ2_containsValue_6 rfl (fun u24 => ?_) (fun a25 u24 => ?_)
    · have w := w.1 u24
      refine g_iconst 42 rfl C dJ2_containsValue_41 0 rfl ?_
      exact g_zreturn C Rr dJ2_containsValue_42 (Or.inl rfl) ⟨_, rfl, w⟩
    · have w := w.2 a25 u24
      refine g_aload_n 10 rfl C dJ2_containsValue_9 rfl ?_
      refine g_getR 13 rfl C dJ2_containsValue_10 fl_LinkedHashMap_43 rfl u24 rfl ?_
      refine g_astore_n 14 rfl C dJ2_containsValue_13 (by decide) (rfl : _ = [none, some (vR [4, 60] _), some (vR [6, 7] _), some (vR [4, 60] _)]) ?_
      refine g_aload_n 15 rfl C dJ2_containsValue_14 rfl ?_
      refine g_aload_n 16 rfl C dJ2_containsValue_15 rfl ?_
      refine g_acmp_eq 19 31 rfl C dJ2_containsValue_16 rfl (fun u26 => ?_) (fun u26 => ?_)
      · have w := w.1 u26
        refine g_sub [none, none, none, none] [] rfl rfl ?_
        exact wk_J2_containsValue_b31 C Rr N _ w
      · have w := w.2 u26
        refine g_aload_n 20 rfl C dJ2_containsValue_19 rfl ?_
        refine g_ifnull 23 33 rfl C dJ2_containsValue_20 rfl (fun u27 => ?_) (fun a28 u27 => ?_)
        · have w := w.1 u27
          refine g_sub [none, some none, some none, none] [] rfl rfl ?_
          exact wk_J2_containsValue_b33 C Rr N ih _ _ _ w
        · have w := w.2 a28 u27
          refine g_aload_n 24 rfl C dJ2_containsValue_23 rfl ?_
          refine g_aload_n 25 rfl C dJ2_containsValue_24 rfl ?_
          refine g_callU (As := [vR [4, 60] _]) (T := [4, 60]) (st := []) "java/lang/Integer" 28 rfl C dJ2_containsValue_25 q592 q384 dcl_e59518 q388 q389 q15 q390 okn_ad8bbc (by decide) (by decide) (Nat.le_of_ble_eq_true rfl) u27 (fun q => tC rfl q) rfl (ct_J5_equals C.glob w) (fun r0 h31 p32 x33 _ => ?_)
          obtain ⟨r30, rfl, w⟩ := p32
          have w := w x33
          change Gd _ _ _ _ (vI r30 :: [])
          refine g_if_eq 31 33 rfl C dJ2_containsValue_28 rfl (fun u34 => ?_) (fun u34 => ?_)
          · have w := w.1 u34
            refine g_sub [none, some none, some none, none] [] rfl rfl ?_
            exact wk_J2_containsValue_b33 C Rr N ih _ _ _ w
          · have w := w.2 u34
            refine g_sub [none, none, none, none] [] rfl rfl ?_
            exact wk_J2_containsValue_b31 C Rr N _ w
def wp_J2_containsValue (h : Hp) (x0 : Option Nat) (x1 : Option Nat) (K : Int32 → Hp → Prop) : Prop :=
  (∃ a20, x0 = some a20 ∧ (∃ n, wp_J2_containsValue_b5 K n h x1 (rf h 19 a20)))
set_option maxHeartbeats 4000000 in
theorem wk_J2_containsValue {X : Fx} {K : Int32 → Hp → Prop} (C : Cx X cJ2_containsValue yJ2_containsValue.cls 4 4) (Rr : Rx X (Option.some Jvm.ClassFile.FieldType.boolean) (pI K)) (N : Nm X yJ2_containsValue.name) (h : Hp) (x0 : Option Nat) (x1 : Option Nat) (w : wp_J2_containsValue h x0 x1 K) : Gd X h 0 [some (vR [3] x0), some (vR [4, 60] x1), none, none] [] := by
  unfold wp_J2_containsValue at w
  refine g_aload_n 1 rfl C dJ2_containsValue_0 rfl ?_
  obtain ⟨a20, e21, w⟩ := w
  refine g_getR 4 rfl C dJ2_containsValue_1 fl_LinkedHashMap_7 rfl e21 rfl ?_
  refine g_astore_n 5 rfl C dJ2_containsValue_4 (by decide) (rfl : _ = [some (vR [3] _), some (vR [4, 60] _), some (vR [6, 7] _), none]) ?_
  refine g_sub [none, some none, some none, none] [] rfl rfl ?_
  obtain ⟨n9, w⟩ := w
  exact wk_J2_containsValue_b5 C Rr N n9 _ _ _ w
theorem ct_J2_containsValue {E : Gx} (GE : Glob E) {h : Hp} {x0 : Option Nat} {x1 : Option Nat} {K : Int32 → Hp → Prop} (w : wp_J2_containsValue h x0 x1 K) : Ct E yJ2_containsValue cJ2_containsValue 4 (Option.some Jvm.ClassFile.FieldType.boolean) 4 [vR [3] x0, vR [4, 60] x1] h (pI K) :=
  Ct.of GE (by decide +kernel) (by simp [lvA, t2]) rfl (fun X hX C Rr N => wk_J2_containsValue C Rr N h x0 x1 w)
def wp_J2_clear (h : Hp) (x0 : Option Nat) (K : Hp → Prop) : Prop :=
  (∃ a14, x0 = some a14 ∧ (wp_J1_clear h x0 (fun h18 => Ex h h18 → (∀ h21, h21 = wR h18 20 a14 none → (∀ h22, h22 = wR h21 19 a14 none → (K h22))))))
set_option maxHeartbeats 4000000 in
theorem wk_J2_clear {X : Fx} {K : Hp → Prop} (C : Cx X cJ2_clear yJ2_clear.cls 1 3) (Rr : Rx X (Option.none : Option Jvm.ClassFile.FieldType) (pV K)) (N : Nm X yJ2_clear.name) (h : Hp) (x0 : Option Nat) (w : wp_J2_clear h x0 K) : Gd X h 0 [some (vR [3] x0)] [] := by
  unfold wp_J2_clear at w
  refine g_aload_n 1 rfl C dJ2_clear_0 rfl ?_
  obtain ⟨a14, e15, w⟩ := w
  refine g_known 0 rfl e15 (fun k16 => ?_)
  refine g_sub [some none] [some [2, 3]] rfl rfl ?_
  refine g_callSU (As := []) (T := [2, 3]) (st := []) "java/util/LinkedHashMap" 4 rfl C dJ2_clear_1 q615 q611 q125 q609 q11 q616 (by decide) okn_3872f0 (by decide) (by decide) (Nat.le_of_ble_eq_true rfl) e15 (fun _ => tC rfl k16) rfl (ct_J1_clear C.glob w) (fun r0 h18 p19 x20 _ => ?_)
  obtain ⟨rfl, w⟩ := p19
  have w := w x20
  change Gd _ _ _ _ []
  refine g_aload_n 5 rfl C dJ2_clear_4 rfl ?_
  refine g_aload_n 6 rfl C dJ2_clear_5 rfl ?_
  refine g_null 7 rfl C dJ2_clear_6 ?_
  refine g_dup_x1 8 rfl C dJ2_clear_7 rfl rfl ?_
  refine g_putR 11 rfl C dJ2_clear_8 fl_LinkedHashMap_11 rfl rfl rfl e15 rfl ?_
  have w := w _ rfl
  refine g_putR 14 rfl C dJ2_clear_11 fl_LinkedHashMap_7 rfl rfl rfl e15 rfl ?_
  have w := w _ rfl
  exact g_vreturn C Rr dJ2_clear_14 ⟨rfl, w⟩
theorem ct_J2_clear {E : Gx} (GE : Glob E) {h : Hp} {x0 : Option Nat} {K : Hp → Prop} (w : wp_J2_clear h x0 K) : Ct E yJ2_clear cJ2_clear 1 (Option.none : Option Jvm.ClassFile.FieldType) 3 [vR [3] x0] h (pV K) :=
  Ct.of GE (by decide +kernel) (by simp [lvA, t2]) rfl (fun X hX C Rr N => wk_J2_clear C Rr N h x0 w)
def wp_J21_floorOrCeil_b33 (K : UInt64 → Hp → Prop) (h : Hp) (s0 : UInt64) : Prop :=
  (K s0 h)
set_option maxHeartbeats 4000000 in
theorem wk_J21_floorOrCeil_b33 {X : Fx} {K : UInt64 → Hp → Prop} (C : Cx X cJ21_floorOrCeil yJ21_floorOrCeil.cls 15 3) (Rr : Rx X (Option.some Jvm.ClassFile.FieldType.double) (pD K)) (N : Nm X yJ21_floorOrCeil.name) (h : Hp) (s0 : UInt64) (w : wp_J21_floorOrCeil_b33 K h s0) : Gd X h 33 [none, none, none, none, none, none, none, none, none, none, none, none, none, none, none] [vD s0] := by
  unfold wp_J21_floorOrCeil_b33 at w
  exact g_dreturn C Rr dJ21_floorOrCeil_33 ⟨_, rfl, w⟩
def wp_J21_floorOrCeil_b125 (K : UInt64 → Hp → Prop) (h : Hp) (l13 : UInt64) : Prop :=
  (K l13 h)
set_option maxHeartbeats 4000000 in
theorem wk_J21_floorOrCeil_b125 {X : Fx} {K : UInt64 → Hp → Prop} (C : Cx X cJ21_floorOrCeil yJ21_floorOrCeil.cls 15 3) (Rr : Rx X (Option.some Jvm.ClassFile.FieldType.double) (pD K)) (N : Nm X yJ21_floorOrCeil.name) (h : Hp) (l13 : UInt64) (w : wp_J21_floorOrCeil_b125 K h l13) : Gd X h 125 [none, none, none, none, none, none, none, none, none, none, none, none, none, some (vD l13), none] [] := by
  unfold wp_J21_floorOrCeil_b125 at w
  refine g_dload 127 rfl C dJ21_floorOrCeil_125 rfl ?_
  exact g_dreturn C Rr dJ21_floorOrCeil_127 ⟨_, rfl, w⟩
def wp_J21_floorOrCeil_b69 (K : UInt64 → Hp → Prop) (h : Hp) (l0 : UInt64) (l6 : UInt64) (l8 : Int32) : Prop :=
  ((¬ (lg_cmp (((4503599627370495 : Int64) >>> ((l8 : Int32).toInt64 &&& 63)) &&& (vbD l0)) 0) = 0 → (vbN ((vbD l0) &&& (((4503599627370495 : Int64) >>> ((l8 : Int32).toInt64 &&& 63)) ^^^ (-1 : Int64))) ∧ (vf_n64 (FP.dmul l6 l0) ∧ (((Op.cmpValue (FP.dcmp (FP.dmul l6 l0) (FP.dconst0)) .l) ≤ 0 → (wp_J21_floorOrCeil_b125 K h (vbL ((vbD l0) &&& (((4503599627370495 : Int64) >>> ((l8 : Int32).toInt64 &&& 63)) ^^^ (-1 : Int64)))))) ∧ (¬ (Op.cmpValue (FP.dcmp (FP.dmul l6 l0) (FP.dconst0)) .l) ≤ 0 → (vf_n64 (FP.dadd (vbL ((vbD l0) &&& (((4503599627370495 : Int64) >>> ((l8 : Int32).toInt64 &&& 63)) ^^^ (-1 : Int64)))) l6) ∧ (wp_J21_floorOrCeil_b125 K h (FP.dadd (vbL ((vbD l0) &&& (((4503599627370495 : Int64) >>> ((l8 : Int32).toInt64 &&& 63)) ^^^ (-1 : Int64)))) l6)))))))) ∧ ((lg_cmp (((4503599627370495 : Int64) >>> ((l8 : Int32).toInt64 &&& 63)) &&& (vbD l0)) 0) = 0 → (K l0 h)))
set_option maxHeartbeats 4000000 in
theorem wk_J21_floorOrCeil_b69 {X : Fx} {K : UInt64 → Hp → Prop} (C : Cx X cJ21_floorOrCeil yJ21_floorOrCeil.cls 15 3) (Rr : Rx X (Option.some Jvm.ClassFile.FieldType.double) (pD K)) (N : Nm X yJ21_floorOrCeil.name) (h : Hp) (l0 : UInt64) (l6 : UInt64) (l8 : Int32) (w : wp_J21_floorOrCeil_b69 K h l0 l6 l8) : Gd X h 69 [some (vD l0), none, none, none, none, none, some (vD l6), none, some (vI l8), none, none, none, none, none, none] [] := by
  unfold wp_J21_floorOrCeil_b69 at w
  refine g_dload_n 70 rfl C dJ21_floorOrCeil_69 rfl ?_
  refine g_d2l 73 rfl C dJ21_floorOrCeil_70 q890 (by decide) (Nat.le_of_ble_eq_true rfl) ?_
  refine g_lstore 75 rfl C dJ21_floorOrCeil_73 (by decide) (rfl : _ = [some (vD _), none, none, none, none, none, some (vD _), none, some (vI _), some (vL _), none, none, none, none, none]) ?_
  refine g_ldc2 78 rfl C dJ21_floorOrCeil_75 q891 ?_
  refine g_iload 80 rfl C dJ21_floorOrCeil_78 rfl ?_
  refine g_lshr 81 rfl C dJ21_floorOrCeil_80 ?_
  refine g_lstore 83 rfl C dJ21_floorOrCeil_81 (by decide) (rfl : _ = [some (vD _), none, none, none, none, none, some (vD _), none, some (vI _), some (vL _), none, some (vL _), none, none, none]) ?_
  refine g_lload 85 rfl C dJ21_floorOrCeil_83 rfl ?_
  refine g_lload 87 rfl C dJ21_floorOrCeil_85 rfl ?_
  refine g_land 88 rfl C dJ21_floorOrCeil_87 ?_
  refine g_lconst 89 rfl C dJ21_floorOrCeil_88 0 rfl ?_
  refine g_lcmp 90 rfl C dJ21_floorOrCeil_89 ?_
  refine g_if_ne 93 95 rfl C dJ21_floorOrCeil_90 rfl (fun u27 => ?_) (fun u27 => ?_)
  · have w := w.1 u27
    refine g_lload 97 rfl C dJ21_floorOrCeil_95 rfl ?_
    refine g_lload 99 rfl C dJ21_floorOrCeil_97 rfl ?_
    refine g_ldc2 102 rfl C dJ21_floorOrCeil_99 q892 ?_
    refine g_lxor 103 rfl C dJ21_floorOrCeil_102 ?_
    refine g_land 104 rfl C dJ21_floorOrCeil_103 ?_
    obtain ⟨e28, w⟩ := w
    refine g_l2d 107 rfl C dJ21_floorOrCeil_104 q893 (by decide) e28 (Nat.le_of_ble_eq_true rfl) ?_
    refine g_dstore 109 rfl C dJ21_floorOrCeil_107 (by decide) (rfl : _ = [some (vD _), none, none, none, none, none, some (vD _), none, some (vI _), some (vL _), none, some (vL _), none, some (vD _), none]) ?_
    refine g_dload 111 rfl C dJ21_floorOrCeil_109 rfl ?_
    refine g_dload_n 112 rfl C dJ21_floorOrCeil_111 rfl ?_
    obtain ⟨e29, w⟩ := w
    refine g_dmul 113 rfl C dJ21_floorOrCeil_112 e29 ?_
    refine g_dconst0 114 rfl C dJ21_floorOrCeil_113 ?_
    refine g_dcmp 115 rfl C dJ21_floorOrCeil_114 ?_
    refine g_if_le 118 125 rfl C dJ21_floorOrCeil_115 rfl (fun u30 => ?_) (fun u30 => ?_)
    · have w := w.1 u30
      refine g_sub [none, none, none, none, none, none, none, none, none, none, none, none, none, some none, none] [] rfl rfl ?_
      exact wk_J21_floorOrCeil_b125 C Rr N _ _ w
    · have w := w.2 u30
      refine g_dload 120 rfl C dJ21_floorOrCeil_118 rfl ?_
      refine g_dload 122 rfl C dJ21_floorOrCeil_120 rfl ?_
      obtain ⟨e31, w⟩ := w
      refine g_dadd 123 rfl C dJ21_floorOrCeil_122 e31 ?_
      refine g_dstore 125 rfl C dJ21_floorOrCeil_123 (by decide) (rfl : _ = [some (vD _), none, none, none, none, none, some (vD _), none, some (vI _), some (vL _), none, some (vL _), none, some (vD _), none]) ?_
      refine g_sub [none, none, none, none, none, none, none, none, none, none, none, none, none, some none, none] [] rfl rfl ?_
      exact wk_J21_floorOrCeil_b125 C Rr N _ _ w
  · have w := w.2 u27
    refine g_dload_n 94 rfl C dJ21_floorOrCeil_93 rfl ?_
    exact g_dreturn C Rr dJ21_floorOrCeil_94 ⟨_, rfl, w⟩
def wp_J21_floorOrCeil (h : Hp) (x0 : UInt64) (x1 : UInt64) (x2 : UInt64) (x3 : UInt64) (K : UInt64 → Hp → Prop) : Prop :=
  (wp_J10_getExponent h x0 (fun r19 h20 => Ex h h20 → ((0 ≤ r19 → ((r19 < 52 → (wp_J21_floorOrCeil_b69 K h20 x0 x3 r19)) ∧ (¬ r19 < 52 → (K x0 h20)))) ∧ (¬ 0 ≤ r19 → ((¬ (Op.cmpValue (FP.dcmp x0 (FP.dconst0)) .l) = 0 → ((0 ≤ (Op.cmpValue (FP.dcmp x0 (FP.dconst0)) .g) → (wp_J21_floorOrCeil_b33 K h20 x2)) ∧ (¬ 0 ≤ (Op.cmpValue (FP.dcmp x0 (FP.dconst0)) .g) → (wp_J21_floorOrCeil_b33 K h20 x1)))) ∧ ((Op.cmpValue (FP.dcmp x0 (FP.dconst0)) .l) = 0 → (wp_J21_floorOrCeil_b33 K h20 x0)))))))
set_option maxHeartbeats 4000000 in
theorem wk_J21_floorOrCeil {X : Fx} {K : UInt64 → Hp → Prop} (C : Cx X cJ21_floorOrCeil yJ21_floorOrCeil.cls 15 3) (Rr : Rx X (Option.some Jvm.ClassFile.FieldType.double) (pD K)) (N : Nm X yJ21_floorOrCeil.name) (h : Hp) (x0 : UInt64) (x1 : UInt64) (x2 : UInt64) (x3 : UInt64) (w : wp_J21_floorOrCeil h x0 x1 x2 x3 K) : Gd X h 0 [some (vD x0), none, some (vD x1), none, some (vD x2), none, some (vD x3), none, none, none, none, none, none, none, none] [] := by
  unfold wp_J21_floorOrCeil at w
  refine g_dload_n 1 rfl C dJ21_floorOrCeil_0 rfl ?_
  refine g_callS (As := [vD _]) (st := []) 4 rfl C dJ21_floorOrCeil_1 q880 q881 q23 q882 okn_cb593b (by decide) (by decide) (Nat.le_of_ble_eq_true rfl) rfl (ct_J10_getExponent C.glob w) (fun r0 h20 p21 x22 _ => ?_)
  obtain ⟨r19, rfl, w⟩ := p21
  have w := w x22
  change Gd _ _ _ _ (vI r19 :: [])
  refine g_istore 6 rfl C dJ21_floorOrCeil_4 (by decide) (rfl : _ = [some (vD _), none, some (vD _), none, some (vD _), none, some (vD _), none, some (vI _), none, none, none, none, none, none]) ?_
  refine g_iload 8 rfl C dJ21_floorOrCeil_6 rfl ?_
  refine g_if_ge 11 34 rfl C dJ21_floorOrCeil_8 rfl (fun u23 => ?_) (fun u23 => ?_)
  · have w := w.1 u23
    refine g_iload 36 rfl C dJ21_floorOrCeil_34 rfl ?_
    refine g_bipush 38 rfl C dJ21_floorOrCeil_36 52 (by decide) ?_
    refine g_icmp_lt 41 43 rfl C dJ21_floorOrCeil_38 rfl (fun u24 => ?_) (fun u24 => ?_)
    · have w := w.1 u24
      refine g_assertM 46 rfl C dJ21_floorOrCeil_43 q888 ?_
      refine g_if_ne 49 69 rfl C dJ21_floorOrCeil_46 rfl (fun _ => ?_) (fun q => absurd q (by decide))
      refine g_sub [some none, none, none, none, none, none, some none, none, some none, none, none, none, none, none, none] [] rfl rfl ?_
      exact wk_J21_floorOrCeil_b69 C Rr N _ _ _ _ w
    · have w := w.2 u24
      refine g_dload_n 42 rfl C dJ21_floorOrCeil_41 rfl ?_
      exact g_dreturn C Rr dJ21_floorOrCeil_42 ⟨_, rfl, w⟩
  · have w := w.2 u23
    refine g_dload_n 12 rfl C dJ21_floorOrCeil_11 rfl ?_
    refine g_dconst0 13 rfl C dJ21_floorOrCeil_12 ?_
    refine g_dcmp 14 rfl C dJ21_floorOrCeil_13 ?_
    refine g_if_ne 17 21 rfl C dJ21_floorOrCeil_14 rfl (fun u25 => ?_) (fun u25 => ?_)
    · have w := w.1 u25
      refine g_dload_n 22 rfl C dJ21_floorOrCeil_21 rfl ?_
      refine g_dconst0 23 rfl C dJ21_floorOrCeil_22 ?_
      refine g_dcmp 24 rfl C dJ21_floorOrCeil_23 ?_
      refine g_if_ge 27 31 rfl C dJ21_floorOrCeil_24 rfl (fun u26 => ?_) (fun u26 => ?_)
      · have w := w.1 u26
        refine g_dload 33 rfl C dJ21_floorOrCeil_31 rfl ?_
        refine g_sub [none, none, none, none, none, none, none, none, none, none, none, none, none, none, none] [none] rfl rfl ?_
        exact wk_J21_floorOrCeil_b33 C Rr N _ _ w
      · have w := w.2 u26
        refine g_dload_n 28 rfl C dJ21_floorOrCeil_27 rfl ?_
        refine g_goto 33 C dJ21_floorOrCeil_28 rfl ?_
        refine g_sub [none, none, none, none, none, none, none, none, none, none, none, none, none, none, none] [none] rfl rfl ?_
        exact wk_J21_floorOrCeil_b33 C Rr N _ _ w
    · have w := w.2 u25
      refine g_dload_n 18 rfl C dJ21_floorOrCeil_17 rfl ?_
      refine g_goto 33 C dJ21_floorOrCeil_18 rfl ?_
      refine g_sub [none, none, none, none, none, none, none, none, none, none, none, none, none, none, none] [none] rfl rfl ?_
      exact wk_J21_floorOrCeil_b33 C Rr N _ _ w
def wp_J21_floorOrCeil_b61 (K : UInt64 → Hp → Prop) (h : Hp)  : Prop :=
  False
set_option maxHeartbeats 4000000 in
theorem wk_J21_floorOrCeil_b61 {X : Fx} {K : UInt64 → Hp → Prop} (C : Cx X cJ21_floorOrCeil yJ21_floorOrCeil.cls 15 3) (Rr : Rx X (Option.some Jvm.ClassFile.FieldType.double) (pD K)) (N : Nm X yJ21_floorOrCeil.name) (h : Hp)  (w : wp_J21_floorOrCeil_b61 K h ) : Gd X h 61 [none, none, none, none, none, none, none, none, none, none, none, none, none, none, none] [] := by
  unfold wp_J21_floorOrCeil_b61 at w
  exact w.elim
theorem ct_J21_floorOrCeil {E : Gx} (GE : Glob E) {h : Hp} {x0 : UInt64} {x1 : UInt64} {x2 : UInt64} {x3 : UInt64} {K : UInt64 → Hp → Prop} (w : wp_J21_floorOrCeil h x0 x1 x2 x3 K) : Ct E yJ21_floorOrCeil cJ21_floorOrCeil 15 (Option.some Jvm.ClassFile.FieldType.double) 3 [vD x0, vD x1, vD x2, vD x3] h (pD K) :=
  Ct.ofF GE (by decide +kernel) (by simp [lvA, t2]) rfl (fun X hX C Rr N => wk_J21_floorOrCeil C Rr N h x0 x1 x2 x3 w)
def wp_J21_ceil (h : Hp) (x0 : UInt64) (K : UInt64 → Hp → Prop) : Prop :=
  (wp_J21_floorOrCeil h x0 (9223372036854775808 : UInt64) (FP.dconst1) (FP.dconst1) (fun r7 h8 => Ex h h8 → (K r7 h8)))
set_option maxHeartbeats 4000000 in
theorem wk_J21_ceil {X : Fx} {K : UInt64 → Hp → Prop} (C : Cx X cJ21_ceil yJ21_ceil.cls 2 4) (Rr : Rx X (Option.some Jvm.ClassFile.FieldType.double) (pD K)) (N : Nm X yJ21_ceil.name) (h : Hp) (x0 : UInt64) (w : wp_J21_ceil h x0 K) : Gd X h 0 [some (vD x0), none] [] := by
  unfold wp_J21_ceil at w
  refine g_dload_n 1 rfl C dJ21_ceil_0 rfl ?_
  refine g_ldc2d 4 rfl C dJ21_ceil_1 q876 ?_
  refine g_dconst1 5 rfl C dJ21_ceil_4 ?_
  refine g_dconst1 6 rfl C dJ21_ceil_5 ?_
  refine g_callS (As := [vD _, vD _, vD _, vD _]) (st := []) 9 rfl C dJ21_ceil_6 q877 q878 q35 q879 okn_a5ec4c (by decide) (by decide) (Nat.le_of_ble_eq_true rfl) rfl (ct_J21_floorOrCeil C.glob w) (fun r0 h8 p9 x10 _ => ?_)
  obtain ⟨r7, rfl, w⟩ := p9
  have w := w x10
  change Gd _ _ _ _ (vD r7 :: [])
  exact g_dreturn C Rr dJ21_ceil_9 ⟨_, rfl, w⟩
theorem ct_J21_ceil {E : Gx} (GE : Glob E) {h : Hp} {x0 : UInt64} {K : UInt64 → Hp → Prop} (w : wp_J21_ceil h x0 K) : Ct E yJ21_ceil cJ21_ceil 2 (Option.some Jvm.ClassFile.FieldType.double) 4 [vD x0] h (pD K) :=
  Ct.ofF GE (by decide +kernel) (by simp [lvA, t2]) rfl (fun X hX C Rr N => wk_J21_ceil C Rr N h x0 w)
def wp_J5_longValue (h : Hp) (x0 : Option Nat) (K : Int64 → Hp → Prop) : Prop :=
  (∃ a3, x0 = some a3 ∧ (K (((it h 23 a3) : Int32).toInt64) h))
set_option maxHeartbeats 4000000 in
theorem wk_J5_longValue {X : Fx} {K : Int64 → Hp → Prop} (C : Cx X cJ5_longValue yJ5_longValue.cls 1 2) (Rr : Rx X (Option.some Jvm.ClassFile.FieldType.long) (pJ K)) (N : Nm X yJ5_longValue.name) (h : Hp) (x0 : Option Nat) (w : wp_J5_longValue h x0 K) : Gd X h 0 [some (vR [4, 60] x0)] [] := by
  unfold wp_J5_longValue at w
  refine g_aload_n 1 rfl C dJ5_longValue_0 rfl ?_
  obtain ⟨a3, e4, w⟩ := w
  refine g_getI 4 rfl C dJ5_longValue_1 fl_Integer_205 rfl e4 rfl ?_
  refine g_i2l 5 rfl C dJ5_longValue_4 ?_
  exact g_lreturn C Rr dJ5_longValue_5 ⟨_, rfl, w⟩
theorem ct_J5_longValue {E : Gx} (GE : Glob E) {h : Hp} {x0 : Option Nat} {K : Int64 → Hp → Prop} (w : wp_J5_longValue h x0 K) : Ct E yJ5_longValue cJ5_longValue 1 (Option.some Jvm.ClassFile.FieldType.long) 2 [vR [4, 60] x0] h (pJ K) :=
  Ct.of GE (by decide +kernel) (by simp [lvA, t2]) rfl (fun X hX C Rr N => wk_J5_longValue C Rr N h x0 w)
def wp_J6_setValue (h : Hp) (x0 : Option Nat) (x1 : Option Nat) (K : Option Nat → Hp → Prop) : Prop :=
  (∃ a6, x0 = some a6 ∧ (∀ h8, h8 = wR h 2 a6 x1 → (K (rf h 2 a6) h8)))
set_option maxHeartbeats 4000000 in
theorem wk_J6_setValue {X : Fx} {K : Option Nat → Hp → Prop} (C : Cx X cJ6_setValue yJ6_setValue.cls 3 2) (Rr : Rx X (Option.some (Jvm.ClassFile.FieldType.object "java/lang/Object")) (pR [4, 60] K)) (N : Nm X yJ6_setValue.name) (h : Hp) (x0 : Option Nat) (x1 : Option Nat) (w : wp_J6_setValue h x0 x1 K) : Gd X h 0 [some (vR [5, 6, 7] x0), some (vR [4, 60] x1), none] [] := by
  unfold wp_J6_setValue at w
  refine g_aload_n 1 rfl C dJ6_setValue_0 rfl ?_
  obtain ⟨a6, e7, w⟩ := w
  refine g_getR 4 rfl C dJ6_setValue_1 fl_HashMap_Node_17 rfl e7 rfl ?_
  refine g_astore_n 5 rfl C dJ6_setValue_4 (by decide) (rfl : _ = [some (vR [5, 6, 7] _), some (vR [4, 60] _), some (vR [4, 60] _)]) ?_
  refine g_aload_n 6 rfl C dJ6_setValue_5 rfl ?_
  refine g_aload_n 7 rfl C dJ6_setValue_6 rfl ?_
  refine g_putR 10 rfl C dJ6_setValue_7 fl_HashMap_Node_17 rfl rfl rfl e7 rfl ?_
  have w := w _ rfl
  refine g_aload_n 11 rfl C dJ6_setValue_10 rfl ?_
  exact g_areturn [4, 60] C Rr rfl dJ6_setValue_11 rfl ⟨_, rfl, w⟩
theorem ct_J6_setValue {E : Gx} (GE : Glob E) {h : Hp} {x0 : Option Nat} {x1 : Option Nat} {K : Option Nat → Hp → Prop} (w : wp_J6_setValue h x0 x1 K) : Ct E yJ6_setValue cJ6_setValue 3 (Option.some (Jvm.ClassFile.FieldType.object "java/lang/Object")) 2 [vR [5, 6, 7] x0, vR [4, 60] x1] h (pR [4, 60] K) :=
  Ct.of GE (by decide +kernel) (by simp [lvA, t2]) rfl (fun X hX C Rr N => wk_J6_setValue C Rr N h x0 x1 w)
def wp_J9_copyOf (h : Hp) (x0 : Option Nat) (x1 : Int32) (K : Option Nat → Hp → Prop) : Prop :=
  (∃ a31, x0 = some a31 ∧ (ln h a31 < 2 ^ 26 → ((¬ x1 = (nI (ln h a31)) → (∃ N35, x1 = nI N35 ∧ N35 < 2 ^ 26 ∧ Rm h 1 N35 ∧ ∀ a39, kd h a39 = 0 → ∀ h41, h41 = nw h a39 50 N35 → (ln h41 a31 < 2 ^ 26 → (wp_J10_min h41 (nI (ln h41 a31)) x1 (fun r44 h45 => Ex h41 h45 → (∃ i48 j49 c50, 0 = nI i48 ∧ 0 = nI j49 ∧ r44 = nI c50 ∧ i48 + c50 ≤ ln h45 a31 ∧ j49 + c50 ≤ ln h45 a39 ∧ ∀ h56, h56 = cpI h45 a31 i48 a39 j49 c50 → (K (some a39) h56))))))) ∧ (x1 = (nI (ln h a31)) → False))))
set_option maxHeartbeats 4000000 in
theorem wk_J9_copyOf {X : Fx} {K : Option Nat → Hp → Prop} (C : Cx X cJ9_copyOf yJ9_copyOf.cls 3 3) (Rr : Rx X (Option.some (Jvm.ClassFile.FieldType.array Jvm.ClassFile.FieldType.int)) (pR [50] K)) (N : Nm X yJ9_copyOf.name) (h : Hp) (x0 : Option Nat) (x1 : Int32) (w : wp_J9_copyOf h x0 x1 K) : Gd X h 0 [some (vR [50] x0), some (vI x1), none] [] := by
  unfold wp_J9_copyOf at w
  refine g_iload_n 1 rfl C dJ9_copyOf_0 rfl ?_
  refine g_aload_n 2 rfl C dJ9_copyOf_1 rfl ?_
  obtain ⟨a31, e32, w⟩ := w
  refine g_alen 3 rfl C dJ9_copyOf_2 e32 rfl (fun u33 => ?_)
  have w := w u33
  refine g_icmp_ne 6 14 rfl C dJ9_copyOf_3 rfl (fun u34 => ?_) (fun u34 => ?_)
  · have w := w.1 u34
    refine g_iload_n 15 rfl C dJ9_copyOf_14 rfl ?_
    obtain ⟨N35, e36, b37, r38, w⟩ := w
    refine g_newI 17 rfl C dJ9_copyOf_15 e36 b37 r38 (fun a39 z40 => ?_)
    have w := w a39 z40 _ rfl
    refine g_astore_n 18 rfl C dJ9_copyOf_17 (by decide) (rfl : _ = [some (vR [50] _), some (vI _), some (vR [50] _)]) ?_
    refine g_aload_n 19 rfl C dJ9_copyOf_18 rfl ?_
    refine g_iconst 20 rfl C dJ9_copyOf_19 0 rfl ?_
    refine g_aload_n 21 rfl C dJ9_copyOf_20 rfl ?_
    refine g_iconst 22 rfl C dJ9_copyOf_21 0 rfl ?_
    refine g_aload_n 23 rfl C dJ9_copyOf_22 rfl ?_
    refine g_alen 24 rfl C dJ9_copyOf_23 e32 rfl (fun u42 => ?_)
    have w := w u42
    refine g_iload_n 25 rfl C dJ9_copyOf_24 rfl ?_
    refine g_callS (As := [vI _, vI _]) (st := [vI _, vR [50] _, vI _, vR [50] _]) 28 rfl C dJ9_copyOf_25 q1187 q1188 q23 q1189 okn_0ed4c2 (by decide) (by decide) (Nat.le_of_ble_eq_true rfl) rfl (ct_J10_min C.glob w) (fun r0 h45 p46 x47 _ => ?_)
    obtain ⟨r44, rfl, w⟩ := p46
    have w := w x47
    change Gd _ _ _ _ (vI r44 :: [vI _, vR [50] _, vI _, vR [50] _])
    obtain ⟨i48, j49, c50, e51, e52, e53, e54, e55, w⟩ := w
    refine g_acopy 31 rfl C dJ9_copyOf_28 q1190 (by decide) (Nat.le_of_ble_eq_true rfl) e32 rfl e51 e52 e53 e54 e55 ?_
    have w := w _ rfl
    refine g_aload_n 32 rfl C dJ9_copyOf_31 rfl ?_
    exact g_areturn [50] C Rr rfl dJ9_copyOf_32 rfl ⟨_, rfl, w⟩
  · have w := w.2 u34
    refine g_aload_n 7 rfl C dJ9_copyOf_6 rfl ?_
    exact w.elim
theorem ct_J9_copyOf {E : Gx} (GE : Glob E) {h : Hp} {x0 : Option Nat} {x1 : Int32} {K : Option Nat → Hp → Prop} (w : wp_J9_copyOf h x0 x1 K) : Ct E yJ9_copyOf cJ9_copyOf 3 (Option.some (Jvm.ClassFile.FieldType.array Jvm.ClassFile.FieldType.int)) 3 [vR [50] x0, vI x1] h (pR [50] K) :=
  Ct.of GE (by decide +kernel) (by simp [lvA, t2]) rfl (fun X hX C Rr N => wk_J9_copyOf C Rr N h x0 x1 w)
def wp_X0_init (h : Hp) (x0 : Option Nat) (K : Hp → Prop) : Prop :=
  (∃ a45, x0 = some a45 ∧ (Rm h 1 8 ∧ ∀ a47, kd h a47 = 0 → ∀ h48, h48 = nw h a47 2 0 → (wp_J1_init h48 (some a47) (fun h53 => Ex h48 h53 → (∀ h56, h56 = wR h53 24 a45 (some a47) → (Rm h56 1 12 ∧ ∀ a57, kd h56 a57 = 0 → ∀ h58, h58 = nw h56 a57 3 0 → (wp_J2_init h58 (some a57) (fun h63 => Ex h58 h63 → (∀ h66, h66 = wR h63 25 a45 (some a57) → (Rm h66 1 12 ∧ ∀ a67, kd h66 a67 = 0 → ∀ h68, h68 = nw h66 a67 3 0 → (wp_J2_init_2 h68 (some a67) 16 (1061158912 : UInt32) 1 (fun h73 => Ex h68 h73 → (∀ h76, h76 = wR h73 26 a45 (some a67) → (K h76))))))))))))))
set_option maxHeartbeats 4000000 in
theorem wk_X0_init {X : Fx} {K : Hp → Prop} (C : Cx X cX0_init yX0_init.cls 1 6) (Rr : Rx X (Option.none : Option Jvm.ClassFile.FieldType) (pV K)) (N : Nm X yX0_init.name) (h : Hp) (x0 : Option Nat) (w : wp_X0_init h x0 K) : Gd X h 0 [some (vR [1] x0)] [] := by
  unfold wp_X0_init at w
  refine g_aload_n 1 rfl C dX0_init_0 rfl ?_
  obtain ⟨a45, e46, w⟩ := w
  refine g_objInit 4 rfl C dX0_init_1 q44 q45 q46 (by decide) (Nat.le_of_ble_eq_true rfl) e46 ?_
  refine g_aload_n 5 rfl C dX0_init_4 rfl ?_
  obtain ⟨r49, w⟩ := w
  refine g_new 2 8 rfl C dX0_init_5 rfl q47 q48 q11 r49 (fun a47 z50 => ?_)
  have w := w a47 z50 _ rfl
  refine g_dup 9 rfl C dX0_init_8 rfl ?_
  refine g_sub [some none] [some [2, 3]] rfl rfl ?_
  refine g_callI (As := []) (T := [2, 3]) (st := [vR [2] _, vR [1] _]) 12 rfl C dX0_init_9 q49 q50 q11 q51 rfl okn_f6ee4b (by decide) (by decide) (Nat.le_of_ble_eq_true rfl) rfl rfl (ct_J1_init C.glob w) (fun r0 h53 p54 x55 _ => ?_)
  obtain ⟨rfl, w⟩ := p54
  have w := w x55
  change Gd _ _ _ _ [vR [2] _, vR [1] _]
  refine g_putRF 15 rfl C N dX0_init_12 fl_HashHall_10 ⟨rfl, rfl⟩ rfl rfl e46 rfl ?_
  have w := w _ rfl
  refine g_aload_n 16 rfl C dX0_init_15 rfl ?_
  obtain ⟨r59, w⟩ := w
  refine g_new 3 19 rfl C dX0_init_16 rfl q97 q98 q12 r59 (fun a57 z60 => ?_)
  have w := w a57 z60 _ rfl
  refine g_dup 20 rfl C dX0_init_19 rfl ?_
  refine g_callI (As := []) (T := [3]) (st := [vR [3] _, vR [1] _]) 23 rfl C dX0_init_20 q99 q100 q12 q101 rfl okn_5c80e6 (by decide) (by decide) (Nat.le_of_ble_eq_true rfl) rfl rfl (ct_J2_init C.glob w) (fun r0 h63 p64 x65 _ => ?_)
  obtain ⟨rfl, w⟩ := p64
  have w := w x65
  change Gd _ _ _ _ [vR [3] _, vR [1] _]
  refine g_putRF 26 rfl C N dX0_init_23 fl_HashHall_19 ⟨rfl, rfl⟩ rfl rfl e46 rfl ?_
  have w := w _ rfl
  refine g_aload_n 27 rfl C dX0_init_26 rfl ?_
  obtain ⟨r69, w⟩ := w
  refine g_new 3 30 rfl C dX0_init_27 rfl q97 q98 q12 r69 (fun a67 z70 => ?_)
  have w := w a67 z70 _ rfl
  refine g_dup 31 rfl C dX0_init_30 rfl ?_
  refine g_bipush 33 rfl C dX0_init_31 16 (by decide) ?_
  refine g_ldcf 35 rfl C dX0_init_33 q126 ?_
  refine g_iconst 36 rfl C dX0_init_35 1 rfl ?_
  refine g_callI (As := [vI _, vF _, vI _]) (T := [3]) (st := [vR [3] _, vR [1] _]) 39 rfl C dX0_init_36 q127 q128 q12 q129 rfl okn_c374c6 (by decide) (by decide) (Nat.le_of_ble_eq_true rfl) rfl rfl (ct_J2_init_2 C.glob w) (fun r0 h73 p74 x75 _ => ?_)
  obtain ⟨rfl, w⟩ := p74
  have w := w x75
  change Gd _ _ _ _ [vR [3] _, vR [1] _]
  refine g_putRF 42 rfl C N dX0_init_39 fl_HashHall_27 ⟨rfl, rfl⟩ rfl rfl e46 rfl ?_
  have w := w _ rfl
  exact g_vreturn C Rr dX0_init_42 ⟨rfl, w⟩
theorem ct_X0_init {E : Gx} (GE : Glob E) {h : Hp} {x0 : Option Nat} {K : Hp → Prop} (w : wp_X0_init h x0 K) : Ct E yX0_init cX0_init 1 (Option.none : Option Jvm.ClassFile.FieldType) 6 [vR [1] x0] h (pV K) :=
  Ct.of GE (by decide +kernel) (by simp [lvA, t2]) rfl (fun X hX C Rr N => wk_X0_init C Rr N h x0 w)
def wp_X0_map (h : Hp) (x0 : Option Nat) (x1 : Int32) (K : Option Nat → Hp → Prop) : Prop :=
  ((x1 = 0 → (∃ a7, x0 = some a7 ∧ (K (rf h 24 a7) h))) ∧ (¬ x1 = 0 → ((x1 = 1 → (∃ a9, x0 = some a9 ∧ (K (rf h 25 a9) h))) ∧ (¬ x1 = 1 → ((x1 = 2 → (∃ a11, x0 = some a11 ∧ (K (rf h 26 a11) h))) ∧ (¬ x1 = 2 → (K none h)))))))
set_option maxHeartbeats 4000000 in
theorem wk_X0_map {X : Fx} {K : Option Nat → Hp → Prop} (C : Cx X cX0_map yX0_map.cls 2 2) (Rr : Rx X (Option.some (Jvm.ClassFile.FieldType.object "java/util/HashMap")) (pR [2, 3] K)) (N : Nm X yX0_map.name) (h : Hp) (x0 : Option Nat) (x1 : Int32) (w : wp_X0_map h x0 x1 K) : Gd X h 0 [some (vR [1] x0), some (vI x1)] [] := by
  unfold wp_X0_map at w
  refine g_iload_n 1 rfl C dX0_map_0 rfl ?_
  by_cases q0_ : x1 = 0
  · have w := w.1 q0_
    refine g_tableIn 28 C dX0_map_1 (by rw [q0_]; decide) (by rw [q0_]; decide) (by rw [q0_]; rfl) rfl ?_
    refine g_aload_n 29 rfl C dX0_map_28 rfl ?_
    obtain ⟨a7, e8, w⟩ := w
    refine g_getR 32 rfl C dX0_map_29 fl_HashHall_10 rfl e8 rfl ?_
    exact g_areturn [2, 3] C Rr rfl dX0_map_32 rfl ⟨_, rfl, w⟩
  · have w := w.2 q0_
    by_cases q1_ : x1 = 1
    · have w := w.1 q1_
      refine g_tableIn 33 C dX0_map_1 (by rw [q1_]; decide) (by rw [q1_]; decide) (by rw [q1_]; rfl) rfl ?_
      refine g_aload_n 34 rfl C dX0_map_33 rfl ?_
      obtain ⟨a9, e10, w⟩ := w
      refine g_getR 37 rfl C dX0_map_34 fl_HashHall_19 rfl e10 rfl ?_
      exact g_areturn [2, 3] C Rr rfl dX0_map_37 rfl ⟨_, rfl, w⟩
    · have w := w.2 q1_
      by_cases q2_ : x1 = 2
      · have w := w.1 q2_
        refine g_tableIn 38 C dX0_map_1 (by rw [q2_]; decide) (by rw [q2_]; decide) (by rw [q2_]; rfl) rfl ?_
        refine g_aload_n 39 rfl C dX0_map_38 rfl ?_
        obtain ⟨a11, e12, w⟩ := w
        refine g_getR 42 rfl C dX0_map_39 fl_HashHall_27 rfl e12 rfl ?_
        exact g_areturn [2, 3] C Rr rfl dX0_map_42 rfl ⟨_, rfl, w⟩
      · have w := w.2 q2_
        refine g_tableOut 43 C dX0_map_1 (tbl_out3 q0_ q1_ q2_) rfl ?_
        refine g_null 44 rfl C dX0_map_43 ?_
        exact g_areturn [2, 3] C Rr rfl dX0_map_44 rfl ⟨_, rfl, w⟩
theorem ct_X0_map {E : Gx} (GE : Glob E) {h : Hp} {x0 : Option Nat} {x1 : Int32} {K : Option Nat → Hp → Prop} (w : wp_X0_map h x0 x1 K) : Ct E yX0_map cX0_map 2 (Option.some (Jvm.ClassFile.FieldType.object "java/util/HashMap")) 2 [vR [1] x0, vI x1] h (pR [2, 3] K) :=
  Ct.of GE (by decide +kernel) (by simp [lvA, t2]) rfl (fun X hX C Rr N => wk_X0_map C Rr N h x0 x1 w)
def wp_X0_told_b15 (K : Int64 → Hp → Prop) (h : Hp) (s0 : Int64) : Prop :=
  (K s0 h)
set_option maxHeartbeats 4000000 in
theorem wk_X0_told_b15 {X : Fx} {K : Int64 → Hp → Prop} (C : Cx X cX0_told yX0_told.cls 1 3) (Rr : Rx X (Option.some Jvm.ClassFile.FieldType.long) (pJ K)) (N : Nm X yX0_told.name) (h : Hp) (s0 : Int64) (w : wp_X0_told_b15 K h s0) : Gd X h 15 [none] [vL s0] := by
  unfold wp_X0_told_b15 at w
  exact g_lreturn C Rr dX0_told_15 ⟨_, rfl, w⟩
def wp_X0_told (h : Hp) (x0 : Option Nat) (K : Int64 → Hp → Prop) : Prop :=
  ((x0 = none → (wp_X0_told_b15 K h (1099511627776 : Int64))) ∧ (∀ a11, x0 = some a11 → (wp_J5_intValue h x0 (fun r13 h14 => Ex h h14 → (wp_X0_told_b15 K h14 ((r13 : Int32).toInt64))))))
set_option maxHeartbeats 4000000 in
theorem wk_X0_told {X : Fx} {K : Int64 → Hp → Prop} (C : Cx X cX0_told yX0_told.cls 1 3) (Rr : Rx X (Option.some Jvm.ClassFile.FieldType.long) (pJ K)) (N : Nm X yX0_told.name) (h : Hp) (x0 : Option Nat) (w : wp_X0_told h x0 K) : Gd X h 0 [some (vR [4, 60] x0)] [] := by
  unfold wp_X0_told at w
  refine g_aload_n 1 rfl C dX0_told_0 rfl ?_
  refine g_ifnonnull 4 10 rfl C dX0_told_1 rfl (fun a11 u10 => ?_) (fun u10 => ?_)
  · have w := w.2 a11 u10
    refine g_aload_n 11 rfl C dX0_told_10 rfl ?_
    refine g_callV (As := []) (T := [4, 60]) (st := []) "java/lang/Integer" 14 rfl C dX0_told_11 q487 q392 q393 q15 q394 rfl okn_6fb5dd (by decide) (by decide) (Nat.le_of_ble_eq_true rfl) u10 (fun q => tC rfl q) rfl (ct_J5_intValue C.glob w) (fun r0 h14 p15 x16 _ => ?_)
    obtain ⟨r13, rfl, w⟩ := p15
    have w := w x16
    change Gd _ _ _ _ (vI r13 :: [])
    refine g_i2l 15 rfl C dX0_told_14 ?_
    refine g_sub [none] [none] rfl rfl ?_
    exact wk_X0_told_b15 C Rr N _ _ w
  · have w := w.1 u10
    refine g_ldc2 7 rfl C dX0_told_4 q486 ?_
    refine g_goto 15 C dX0_told_7 rfl ?_
    refine g_sub [none] [none] rfl rfl ?_
    exact wk_X0_told_b15 C Rr N _ _ w
theorem ct_X0_told {E : Gx} (GE : Glob E) {h : Hp} {x0 : Option Nat} {K : Int64 → Hp → Prop} (w : wp_X0_told h x0 K) : Ct E yX0_told cX0_told 1 (Option.some Jvm.ClassFile.FieldType.long) 3 [vR [4, 60] x0] h (pJ K) :=
  Ct.of GE (by decide +kernel) (by simp [lvA, t2]) rfl (fun X hX C Rr N => wk_X0_told C Rr N h x0 w)
def wp_X0_put_b37 (K : Int64 → Hp → Prop) (h : Hp) (s0 : Int64) : Prop :=
  (K s0 h)
set_option maxHeartbeats 4000000 in
theorem wk_X0_put_b37 {X : Fx} {K : Int64 → Hp → Prop} (C : Cx X cX0_put yX0_put.cls 5 11) (Rr : Rx X (Option.some Jvm.ClassFile.FieldType.long) (pJ K)) (N : Nm X yX0_put.name) (h : Hp) (s0 : Int64) (w : wp_X0_put_b37 K h s0) : Gd X h 37 [none, none, none, none, none] [vL s0] := by
  unfold wp_X0_put_b37 at w
  exact g_lreturn C Rr dX0_put_37 ⟨_, rfl, w⟩
def wp_X0_put_b31 (K : Int64 → Hp → Prop) (h : Hp) (s0 : Option Nat) : Prop :=
  (wp_X0_told h s0 (fun r57 h58 => Ex h h58 → (wp_X0_put_b37 K h58 r57)))
set_option maxHeartbeats 4000000 in
theorem wk_X0_put_b31 {X : Fx} {K : Int64 → Hp → Prop} (C : Cx X cX0_put yX0_put.cls 5 11) (Rr : Rx X (Option.some Jvm.ClassFile.FieldType.long) (pJ K)) (N : Nm X yX0_put.name) (h : Hp) (s0 : Option Nat) (w : wp_X0_put_b31 K h s0) : Gd X h 31 [none, none, none, none, none] [vR [4, 60] s0] := by
  unfold wp_X0_put_b31 at w
  refine g_cast [4, 60] 34 rfl C dX0_put_31 q482 co_Integer_4_60 (fun _ _ q => q) ?_
  refine g_callS (As := [vR [4, 60] _]) (st := []) 37 rfl C dX0_put_34 q483 q484 q9 q485 okn_1f5479 (by decide) (by decide) (Nat.le_of_ble_eq_true rfl) rfl (ct_X0_told C.glob w) (fun r0 h58 p59 x60 _ => ?_)
  obtain ⟨r57, rfl, w⟩ := p59
  have w := w x60
  change Gd _ _ _ _ (vL r57 :: [])
  refine g_sub [none, none, none, none, none] [none] rfl rfl ?_
  exact wk_X0_put_b37 C Rr N _ _ w
def wp_X0_put (h : Hp) (x0 : Option Nat) (x1 : Int32) (x2 : Int32) (x3 : Int32) (K : Int64 → Hp → Prop) : Prop :=
  (∃ a32, x0 = some a32 ∧ (wp_X0_map h x0 x1 (fun r35 h36 => Ex h h36 → ((r35 = none → (wp_X0_put_b37 K h36 (1099511627777 : Int64))) ∧ (∀ a40, r35 = some a40 → (wp_J5_valueOf h36 x2 (fun r42 h43 => Ex h36 h43 → (wp_J5_valueOf h43 x3 (fun r47 h48 => Ex h43 h48 → (wp_J1_put h48 r35 r42 r47 (fun r52 h53 => Ex h48 h53 → (wp_X0_put_b31 K h53 r52))))))))))))
set_option maxHeartbeats 4000000 in
theorem wk_X0_put {X : Fx} {K : Int64 → Hp → Prop} (C : Cx X cX0_put yX0_put.cls 5 11) (Rr : Rx X (Option.some Jvm.ClassFile.FieldType.long) (pJ K)) (N : Nm X yX0_put.name) (h : Hp) (x0 : Option Nat) (x1 : Int32) (x2 : Int32) (x3 : Int32) (w : wp_X0_put h x0 x1 x2 x3 K) : Gd X h 0 [some (vR [1] x0), some (vI x1), some (vI x2), some (vI x3), none] [] := by
  unfold wp_X0_put at w
  refine g_aload_n 1 rfl C dX0_put_0 rfl ?_
  refine g_iload_n 2 rfl C dX0_put_1 rfl ?_
  obtain ⟨a32, e33, w⟩ := w
  refine g_callV (As := [vI _]) (T := [1]) (st := []) "HashHall" 5 rfl C dX0_put_2 q158 q160 qs0 q9 q161 rfl okn_a136fc (by decide) (by decide) (Nat.le_of_ble_eq_true rfl) e33 (fun q => tC rfl q) rfl (ct_X0_map C.glob w) (fun r0 h36 p37 x38 _ => ?_)
  obtain ⟨r35, rfl, w⟩ := p37
  have w := w x38
  change Gd _ _ _ _ (vR [2, 3] r35 :: [])
  refine g_astore 7 rfl C dX0_put_5 (by decide) (rfl : _ = [some (vR [1] _), some (vI _), some (vI _), some (vI _), some (vR [2, 3] _)]) ?_
  refine g_aload 9 rfl C dX0_put_7 rfl ?_
  refine g_ifnonnull 12 18 rfl C dX0_put_9 rfl (fun a40 u39 => ?_) (fun u39 => ?_)
  · have w := w.2 a40 u39
    refine g_aload 20 rfl C dX0_put_18 rfl ?_
    refine g_iload_n 21 rfl C dX0_put_20 rfl ?_
    refine g_callS (As := [vI _]) (st := [vR [2, 3] _]) 24 rfl C dX0_put_21 q163 q164 q15 q165 okn_680428 (by decide) (by decide) (Nat.le_of_ble_eq_true rfl) rfl (ct_J5_valueOf C.glob w) (fun r0 h43 p44 x45 _ => ?_)
    obtain ⟨r42, rfl, w⟩ := p44
    have w := w x45
    change Gd _ _ _ _ (vR [4, 60] r42 :: [vR [2, 3] _])
    refine g_iload_n 25 rfl C dX0_put_24 rfl ?_
    refine g_callS (As := [vI _]) (st := [vR [4, 60] _, vR [2, 3] _]) 28 rfl C dX0_put_25 q163 q164 q15 q165 okn_680428 (by decide) (by decide) (Nat.le_of_ble_eq_true rfl) rfl (ct_J5_valueOf C.glob w) (fun r0 h48 p49 x50 _ => ?_)
    obtain ⟨r47, rfl, w⟩ := p49
    have w := w x50
    change Gd _ _ _ _ (vR [4, 60] r47 :: [vR [4, 60] _, vR [2, 3] _])
    refine g_known 2 rfl u39 (fun k51 => ?_)
    have k51 : kd _ _ ∈ [2, 3] := k51
    simp only [List.mem_cons, List.not_mem_nil, or_false] at k51
    rcases k51 with k51 | k51
    · refine g_callU (As := [vR [4, 60] _, vR [4, 60] _]) (T := [2, 3]) (st := []) "java/util/HashMap" 31 rfl C dX0_put_28 q183 q186 dcl_103543 q185 q184 q11 q188 okn_4ea4b2 (by decide) (by decide) (Nat.le_of_ble_eq_true rfl) u39 (fun _ => kC rfl k51) rfl (ct_J1_put C.glob w) (fun r0 h53 p54 x55 _ => ?_)
      obtain ⟨r52, rfl, w⟩ := p54
      have w := w x55
      change Gd _ _ _ _ (vR [4, 60] r52 :: [])
      refine g_sub [none, none, none, none, none] [none] rfl rfl ?_
      exact wk_X0_put_b31 C Rr N _ _ w
    · refine g_callU (As := [vR [4, 60] _, vR [4, 60] _]) (T := [2, 3]) (st := []) "java/util/LinkedHashMap" 31 rfl C dX0_put_28 q183 q186 dcl_103543 q187 q184 q11 q188 okn_4ea4b2 (by decide) (by decide) (Nat.le_of_ble_eq_true rfl) u39 (fun _ => kC rfl k51) rfl (ct_J1_put C.glob w) (fun r0 h53 p54 x55 _ => ?_)
      obtain ⟨r52, rfl, w⟩ := p54
      have w := w x55
      change Gd _ _ _ _ (vR [4, 60] r52 :: [])
      refine g_sub [none, none, none, none, none] [none] rfl rfl ?_
      exact wk_X0_put_b31 C Rr N _ _ w
  · have w := w.1 u39
    refine g_ldc2 15 rfl C dX0_put_12 q162 ?_
    refine g_goto 37 C dX0_put_15 rfl ?_
    refine g_sub [none, none, none, none, none] [none] rfl rfl ?_
    exact wk_X0_put_b37 C Rr N _ _ w
theorem ct_X0_put {E : Gx} (GE : Glob E) {h : Hp} {x0 : Option Nat} {x1 : Int32} {x2 : Int32} {x3 : Int32} {K : Int64 → Hp → Prop} (w : wp_X0_put h x0 x1 x2 x3 K) : Ct E yX0_put cX0_put 5 (Option.some Jvm.ClassFile.FieldType.long) 11 [vR [1] x0, vI x1, vI x2, vI x3] h (pJ K) :=
  Ct.of GE (by decide +kernel) (by simp [lvA, t2]) rfl (fun X hX C Rr N => wk_X0_put C Rr N h x0 x1 x2 x3 w)
def wp_X0_add_b37 (K : Int64 → Hp → Prop) (h : Hp) (s0 : Int64) : Prop :=
  (K s0 h)
set_option maxHeartbeats 4000000 in
theorem wk_X0_add_b37 {X : Fx} {K : Int64 → Hp → Prop} (C : Cx X cX0_add yX0_add.cls 5 11) (Rr : Rx X (Option.some Jvm.ClassFile.FieldType.long) (pJ K)) (N : Nm X yX0_add.name) (h : Hp) (s0 : Int64) (w : wp_X0_add_b37 K h s0) : Gd X h 37 [none, none, none, none, none] [vL s0] := by
  unfold wp_X0_add_b37 at w
  exact g_lreturn C Rr dX0_add_37 ⟨_, rfl, w⟩
def wp_X0_add_b31 (K : Int64 → Hp → Prop) (h : Hp) (s0 : Option Nat) : Prop :=
  (wp_X0_told h s0 (fun r57 h58 => Ex h h58 → (wp_X0_add_b37 K h58 r57)))
set_option maxHeartbeats 4000000 in
theorem wk_X0_add_b31 {X : Fx} {K : Int64 → Hp → Prop} (C : Cx X cX0_add yX0_add.cls 5 11) (Rr : Rx X (Option.some Jvm.ClassFile.FieldType.long) (pJ K)) (N : Nm X yX0_add.name) (h : Hp) (s0 : Option Nat) (w : wp_X0_add_b31 K h s0) : Gd X h 31 [none, none, none, none, none] [vR [4, 60] s0] := by
  unfold wp_X0_add_b31 at w
  refine g_cast [4, 60] 34 rfl C dX0_add_31 q482 co_Integer_4_60 (fun _ _ q => q) ?_
  refine g_callS (As := [vR [4, 60] _]) (st := []) 37 rfl C dX0_add_34 q483 q484 q9 q485 okn_1f5479 (by decide) (by decide) (Nat.le_of_ble_eq_true rfl) rfl (ct_X0_told C.glob w) (fun r0 h58 p59 x60 _ => ?_)
  obtain ⟨r57, rfl, w⟩ := p59
  have w := w x60
  change Gd _ _ _ _ (vL r57 :: [])
  refine g_sub [none, none, none, none, none] [none] rfl rfl ?_
  exact wk_X0_add_b37 C Rr N _ _ w
def wp_X0_add (h : Hp) (x0 : Option Nat) (x1 : Int32) (x2 : Int32) (x3 : Int32) (K : Int64 → Hp → Prop) : Prop :=
  (∃ a32, x0 = some a32 ∧ (wp_X0_map h x0 x1 (fun r35 h36 => Ex h h36 → ((r35 = none → (wp_X0_add_b37 K h36 (1099511627777 : Int64))) ∧ (∀ a40, r35 = some a40 → (wp_J5_valueOf h36 x2 (fun r42 h43 => Ex h36 h43 → (wp_J5_valueOf h43 x3 (fun r47 h48 => Ex h43 h48 → (wp_J1_putIfAbsent h48 r35 r42 r47 (fun r52 h53 => Ex h48 h53 → (wp_X0_add_b31 K h53 r52))))))))))))
set_option maxHeartbeats 4000000 in
theorem wk_X0_add {X : Fx} {K : Int64 → Hp → Prop} (C : Cx X cX0_add yX0_add.cls 5 11) (Rr : Rx X (Option.some Jvm.ClassFile.FieldType.long) (pJ K)) (N : Nm X yX0_add.name) (h : Hp) (x0 : Option Nat) (x1 : Int32) (x2 : Int32) (x3 : Int32) (w : wp_X0_add h x0 x1 x2 x3 K) : Gd X h 0 [some (vR [1] x0), some (vI x1), some (vI x2), some (vI x3), none] [] := by
  unfold wp_X0_add at w
  refine g_aload_n 1 rfl C dX0_add_0 rfl ?_
  refine g_iload_n 2 rfl C dX0_add_1 rfl ?_
  obtain ⟨a32, e33, w⟩ := w
  refine g_callV (As := [vI _]) (T := [1]) (st := []) "HashHall" 5 rfl C dX0_add_2 q158 q160 qs0 q9 q161 rfl okn_a136fc (by decide) (by decide) (Nat.le_of_ble_eq_true rfl) e33 (fun q => tC rfl q) rfl (ct_X0_map C.glob w) (fun r0 h36 p37 x38 _ => ?_)
  obtain ⟨r35, rfl, w⟩ := p37
  have w := w x38
  change Gd _ _ _ _ (vR [2, 3] r35 :: [])
  refine g_astore 7 rfl C dX0_add_5 (by decide) (rfl : _ = [some (vR [1] _), some (vI _), some (vI _), some (vI _), some (vR [2, 3] _)]) ?_
  refine g_aload 9 rfl C dX0_add_7 rfl ?_
  refine g_ifnonnull 12 18 rfl C dX0_add_9 rfl (fun a40 u39 => ?_) (fun u39 => ?_)
  · have w := w.2 a40 u39
    refine g_aload 20 rfl C dX0_add_18 rfl ?_
    refine g_iload_n 21 rfl C dX0_add_20 rfl ?_
    refine g_callS (As := [vI _]) (st := [vR [2, 3] _]) 24 rfl C dX0_add_21 q163 q164 q15 q165 okn_680428 (by decide) (by decide) (Nat.le_of_ble_eq_true rfl) rfl (ct_J5_valueOf C.glob w) (fun r0 h43 p44 x45 _ => ?_)
    obtain ⟨r42, rfl, w⟩ := p44
    have w := w x45
    change Gd _ _ _ _ (vR [4, 60] r42 :: [vR [2, 3] _])
    refine g_iload_n 25 rfl C dX0_add_24 rfl ?_
    refine g_callS (As := [vI _]) (st := [vR [4, 60] _, vR [2, 3] _]) 28 rfl C dX0_add_25 q163 q164 q15 q165 okn_680428 (by decide) (by decide) (Nat.le_of_ble_eq_true rfl) rfl (ct_J5_valueOf C.glob w) (fun r0 h48 p49 x50 _ => ?_)
    obtain ⟨r47, rfl, w⟩ := p49
    have w := w x50
    change Gd _ _ _ _ (vR [4, 60] r47 :: [vR [4, 60] _, vR [2, 3] _])
    refine g_known 2 rfl u39 (fun k51 => ?_)
    have k51 : kd _ _ ∈ [2, 3] := k51
    simp only [List.mem_cons, List.not_mem_nil, or_false] at k51
    rcases k51 with k51 | k51
    · refine g_callU (As := [vR [4, 60] _, vR [4, 60] _]) (T := [2, 3]) (st := []) "java/util/HashMap" 31 rfl C dX0_add_28 q492 q495 dcl_1b0f6d q494 q493 q11 q497 okn_20ac0d (by decide) (by decide) (Nat.le_of_ble_eq_true rfl) u39 (fun _ => kC rfl k51) rfl (ct_J1_putIfAbsent C.glob w) (fun r0 h53 p54 x55 _ => ?_)
      obtain ⟨r52, rfl, w⟩ := p54
      have w := w x55
      change Gd _ _ _ _ (vR [4, 60] r52 :: [])
      refine g_sub [none, none, none, none, none] [none] rfl rfl ?_
      exact wk_X0_add_b31 C Rr N _ _ w
    · refine g_callU (As := [vR [4, 60] _, vR [4, 60] _]) (T := [2, 3]) (st := []) "java/util/LinkedHashMap" 31 rfl C dX0_add_28 q492 q495 dcl_1b0f6d q496 q493 q11 q497 okn_20ac0d (by decide) (by decide) (Nat.le_of_ble_eq_true rfl) u39 (fun _ => kC rfl k51) rfl (ct_J1_putIfAbsent C.glob w) (fun r0 h53 p54 x55 _ => ?_)
      obtain ⟨r52, rfl, w⟩ := p54
      have w := w x55
      change Gd _ _ _ _ (vR [4, 60] r52 :: [])
      refine g_sub [none, none, none, none, none] [none] rfl rfl ?_
      exact wk_X0_add_b31 C Rr N _ _ w
  · have w := w.1 u39
    refine g_ldc2 15 rfl C dX0_add_12 q162 ?_
    refine g_goto 37 C dX0_add_15 rfl ?_
    refine g_sub [none, none, none, none, none] [none] rfl rfl ?_
    exact wk_X0_add_b37 C Rr N _ _ w
theorem ct_X0_add {E : Gx} (GE : Glob E) {h : Hp} {x0 : Option Nat} {x1 : Int32} {x2 : Int32} {x3 : Int32} {K : Int64 → Hp → Prop} (w : wp_X0_add h x0 x1 x2 x3 K) : Ct E yX0_add cX0_add 5 (Option.some Jvm.ClassFile.FieldType.long) 11 [vR [1] x0, vI x1, vI x2, vI x3] h (pJ K) :=
  Ct.of GE (by decide +kernel) (by simp [lvA, t2]) rfl (fun X hX C Rr N => wk_X0_add C Rr N h x0 x1 x2 x3 w)
def wp_X0_get_b30 (K : Int64 → Hp → Prop) (h : Hp) (s0 : Int64) : Prop :=
  (K s0 h)
set_option maxHeartbeats 4000000 in
theorem wk_X0_get_b30 {X : Fx} {K : Int64 → Hp → Prop} (C : Cx X cX0_get yX0_get.cls 4 8) (Rr : Rx X (Option.some Jvm.ClassFile.FieldType.long) (pJ K)) (N : Nm X yX0_get.name) (h : Hp) (s0 : Int64) (w : wp_X0_get_b30 K h s0) : Gd X h 30 [none, none, none, none] [vL s0] := by
  unfold wp_X0_get_b30 at w
  exact g_lreturn C Rr dX0_get_30 ⟨_, rfl, w⟩
def wp_X0_get_b24 (K : Int64 → Hp → Prop) (h : Hp) (s0 : Option Nat) : Prop :=
  (wp_X0_told h s0 (fun r35 h36 => Ex h h36 → (wp_X0_get_b30 K h36 r35)))
set_option maxHeartbeats 4000000 in
theorem wk_X0_get_b24 {X : Fx} {K : Int64 → Hp → Prop} (C : Cx X cX0_get yX0_get.cls 4 8) (Rr : Rx X (Option.some Jvm.ClassFile.FieldType.long) (pJ K)) (N : Nm X yX0_get.name) (h : Hp) (s0 : Option Nat) (w : wp_X0_get_b24 K h s0) : Gd X h 24 [none, none, none, none] [vR [4, 60] s0] := by
  unfold wp_X0_get_b24 at w
  refine g_cast [4, 60] 27 rfl C dX0_get_24 q482 co_Integer_4_60 (fun _ _ q => q) ?_
  refine g_callS (As := [vR [4, 60] _]) (st := []) 30 rfl C dX0_get_27 q483 q484 q9 q485 okn_1f5479 (by decide) (by decide) (Nat.le_of_ble_eq_true rfl) rfl (ct_X0_told C.glob w) (fun r0 h36 p37 x38 _ => ?_)
  obtain ⟨r35, rfl, w⟩ := p37
  have w := w x38
  change Gd _ _ _ _ (vL r35 :: [])
  refine g_sub [none, none, none, none] [none] rfl rfl ?_
  exact wk_X0_get_b30 C Rr N _ _ w
def wp_X0_get (h : Hp) (x0 : Option Nat) (x1 : Int32) (x2 : Int32) (K : Int64 → Hp → Prop) : Prop :=
  (∃ a39, x0 = some a39 ∧ (wp_X0_map h x0 x1 (fun r42 h43 => Ex h h43 → ((r42 = none → (wp_X0_get_b30 K h43 (1099511627777 : Int64))) ∧ (∀ a47, r42 = some a47 → (wp_J5_valueOf h43 x2 (fun r49 h50 => Ex h43 h50 → ((kd h50 a47 = 2 ∧ (wp_J1_get h50 r42 r49 (fun r54 h55 => Ex h50 h55 → (wp_X0_get_b24 K h55 r54)))) ∨ (kd h50 a47 = 3 ∧ (wp_J2_get h50 r42 r49 (fun r59 h60 => Ex h50 h60 → (wp_X0_get_b24 K h60 r59))))))))))))
set_option maxHeartbeats 4000000 in
theorem wk_X0_get {X : Fx} {K : Int64 → Hp → Prop} (C : Cx X cX0_get yX0_get.cls 4 8) (Rr : Rx X (Option.some Jvm.ClassFile.FieldType.long) (pJ K)) (N : Nm X yX0_get.name) (h : Hp) (x0 : Option Nat) (x1 : Int32) (x2 : Int32) (w : wp_X0_get h x0 x1 x2 K) : Gd X h 0 [some (vR [1] x0), some (vI x1), some (vI x2), none] [] := by
  unfold wp_X0_get at w
  refine g_aload_n 1 rfl C dX0_get_0 rfl ?_
  refine g_iload_n 2 rfl C dX0_get_1 rfl ?_
  obtain ⟨a39, e40, w⟩ := w
  refine g_callV (As := [vI _]) (T := [1]) (st := []) "HashHall" 5 rfl C dX0_get_2 q158 q160 qs0 q9 q161 rfl okn_a136fc (by decide) (by decide) (Nat.le_of_ble_eq_true rfl) e40 (fun q => tC rfl q) rfl (ct_X0_map C.glob w) (fun r0 h43 p44 x45 _ => ?_)
  obtain ⟨r42, rfl, w⟩ := p44
  have w := w x45
  change Gd _ _ _ _ (vR [2, 3] r42 :: [])
  refine g_astore_n 6 rfl C dX0_get_5 (by decide) (rfl : _ = [some (vR [1] _), some (vI _), some (vI _), some (vR [2, 3] _)]) ?_
  refine g_aload_n 7 rfl C dX0_get_6 rfl ?_
  refine g_ifnonnull 10 16 rfl C dX0_get_7 rfl (fun a47 u46 => ?_) (fun u46 => ?_)
  · have w := w.2 a47 u46
    refine g_aload_n 17 rfl C dX0_get_16 rfl ?_
    refine g_iload_n 18 rfl C dX0_get_17 rfl ?_
    refine g_callS (As := [vI _]) (st := [vR [2, 3] _]) 21 rfl C dX0_get_18 q163 q164 q15 q165 okn_680428 (by decide) (by decide) (Nat.le_of_ble_eq_true rfl) rfl (ct_J5_valueOf C.glob w) (fun r0 h50 p51 x52 _ => ?_)
    obtain ⟨r49, rfl, w⟩ := p51
    have w := w x52
    change Gd _ _ _ _ (vR [4, 60] r49 :: [vR [2, 3] _])
    rcases w with w | w
    · obtain ⟨k53, w⟩ := w
      refine g_callU (As := [vR [4, 60] _]) (T := [2, 3]) (st := []) "java/util/HashMap" 24 rfl C dX0_get_21 q502 q505 dcl_e4b204 q504 q503 q11 q520 okn_f4c5c6 (by decide) (by decide) (Nat.le_of_ble_eq_true rfl) u46 (fun _ => kC rfl k53) rfl (ct_J1_get C.glob w) (fun r0 h55 p56 x57 _ => ?_)
      obtain ⟨r54, rfl, w⟩ := p56
      have w := w x57
      change Gd _ _ _ _ (vR [4, 60] r54 :: [])
      refine g_sub [none, none, none, none] [none] rfl rfl ?_
      exact wk_X0_get_b24 C Rr N _ _ w
    · obtain ⟨k58, w⟩ := w
      refine g_nar 1 [3] rfl u46 (by rw [k58]; decide) ?_
      refine g_callU (As := [vR [4, 60] _]) (T := [3]) (st := []) "java/util/LinkedHashMap" 24 rfl C dX0_get_21 q502 q505 dcl_e4b204 q506 q507 q12 q508 okn_f4c5c6 (by decide) (by decide) (Nat.le_of_ble_eq_true rfl) u46 (fun _ => kC rfl k58) rfl (ct_J2_get C.glob w) (fun r0 h60 p61 x62 _ => ?_)
      obtain ⟨r59, rfl, w⟩ := p61
      have w := w x62
      change Gd _ _ _ _ (vR [4, 60] r59 :: [])
      refine g_sub [none, none, none, none] [none] rfl rfl ?_
      exact wk_X0_get_b24 C Rr N _ _ w
  · have w := w.1 u46
    refine g_ldc2 13 rfl C dX0_get_10 q162 ?_
    refine g_goto 30 C dX0_get_13 rfl ?_
    refine g_sub [none, none, none, none] [none] rfl rfl ?_
    exact wk_X0_get_b30 C Rr N _ _ w
theorem ct_X0_get {E : Gx} (GE : Glob E) {h : Hp} {x0 : Option Nat} {x1 : Int32} {x2 : Int32} {K : Int64 → Hp → Prop} (w : wp_X0_get h x0 x1 x2 K) : Ct E yX0_get cX0_get 4 (Option.some Jvm.ClassFile.FieldType.long) 8 [vR [1] x0, vI x1, vI x2] h (pJ K) :=
  Ct.of GE (by decide +kernel) (by simp [lvA, t2]) rfl (fun X hX C Rr N => wk_X0_get C Rr N h x0 x1 x2 w)
def wp_X0_give_b37 (K : Int64 → Hp → Prop) (h : Hp) (s0 : Int64) : Prop :=
  (K s0 h)
set_option maxHeartbeats 4000000 in
theorem wk_X0_give_b37 {X : Fx} {K : Int64 → Hp → Prop} (C : Cx X cX0_give yX0_give.cls 5 8) (Rr : Rx X (Option.some Jvm.ClassFile.FieldType.long) (pJ K)) (N : Nm X yX0_give.name) (h : Hp) (s0 : Int64) (w : wp_X0_give_b37 K h s0) : Gd X h 37 [none, none, none, none, none] [vL s0] := by
  unfold wp_X0_give_b37 at w
  exact g_lreturn C Rr dX0_give_37 ⟨_, rfl, w⟩
def wp_X0_give_b31 (K : Int64 → Hp → Prop) (h : Hp) (s0 : Option Nat) : Prop :=
  (wp_X0_told h s0 (fun r69 h70 => Ex h h70 → (wp_X0_give_b37 K h70 r69)))
set_option maxHeartbeats 4000000 in
theorem wk_X0_give_b31 {X : Fx} {K : Int64 → Hp → Prop} (C : Cx X cX0_give yX0_give.cls 5 8) (Rr : Rx X (Option.some Jvm.ClassFile.FieldType.long) (pJ K)) (N : Nm X yX0_give.name) (h : Hp) (s0 : Option Nat) (w : wp_X0_give_b31 K h s0) : Gd X h 31 [none, none, none, none, none] [vR [4, 60] s0] := by
  unfold wp_X0_give_b31 at w
  refine g_cast [4, 60] 34 rfl C dX0_give_31 q482 co_Integer_4_60 (fun _ _ q => q) ?_
  refine g_callS (As := [vR [4, 60] _]) (st := []) 37 rfl C dX0_give_34 q483 q484 q9 q485 okn_1f5479 (by decide) (by decide) (Nat.le_of_ble_eq_true rfl) rfl (ct_X0_told C.glob w) (fun r0 h70 p71 x72 _ => ?_)
  obtain ⟨r69, rfl, w⟩ := p71
  have w := w x72
  change Gd _ _ _ _ (vL r69 :: [])
  refine g_sub [none, none, none, none, none] [none] rfl rfl ?_
  exact wk_X0_give_b37 C Rr N _ _ w
def wp_X0_give (h : Hp) (x0 : Option Nat) (x1 : Int32) (x2 : Int32) (x3 : Int32) (K : Int64 → Hp → Prop) : Prop :=
  (∃ a39, x0 = some a39 ∧ (wp_X0_map h x0 x1 (fun r42 h43 => Ex h h43 → ((r42 = none → (wp_X0_give_b37 K h43 (1099511627777 : Int64))) ∧ (∀ a47, r42 = some a47 → (wp_J5_valueOf h43 x2 (fun r49 h50 => Ex h43 h50 → (wp_J5_valueOf h50 x3 (fun r54 h55 => Ex h50 h55 → ((kd h55 a47 = 2 ∧ (wp_J1_getOrDefault h55 r42 r49 r54 (fun r59 h60 => Ex h55 h60 → (wp_X0_give_b31 K h60 r59)))) ∨ (kd h55 a47 = 3 ∧ (wp_J2_getOrDefault h55 r42 r49 r54 (fun r64 h65 => Ex h55 h65 → (wp_X0_give_b31 K h65 r64))))))))))))))
set_option maxHeartbeats 4000000 in
theorem wk_X0_give {X : Fx} {K : Int64 → Hp → Prop} (C : Cx X cX0_give yX0_give.cls 5 8) (Rr : Rx X (Option.some Jvm.ClassFile.FieldType.long) (pJ K)) (N : Nm X yX0_give.name) (h : Hp) (x0 : Option Nat) (x1 : Int32) (x2 : Int32) (x3 : Int32) (w : wp_X0_give h x0 x1 x2 x3 K) : Gd X h 0 [some (vR [1] x0), some (vI x1), some (vI x2), some (vI x3), none] [] := by
  unfold wp_X0_give at w
  refine g_aload_n 1 rfl C dX0_give_0 rfl ?_
  refine g_iload_n 2 rfl C dX0_give_1 rfl ?_
  obtain ⟨a39, e40, w⟩ := w
  refine g_callV (As := [vI _]) (T := [1]) (st := []) "HashHall" 5 rfl C dX0_give_2 q158 q160 qs0 q9 q161 rfl okn_a136fc (by decide) (by decide) (Nat.le_of_ble_eq_true rfl) e40 (fun q => tC rfl q) rfl (ct_X0_map C.glob w) (fun r0 h43 p44 x45 _ => ?_)
  obtain ⟨r42, rfl, w⟩ := p44
  have w := w x45
  change Gd _ _ _ _ (vR [2, 3] r42 :: [])
  refine g_astore 7 rfl C dX0_give_5 (by decide) (rfl : _ = [some (vR [1] _), some (vI _), some (vI _), some (vI _), some (vR [2, 3] _)]) ?_
  refine g_aload 9 rfl C dX0_give_7 rfl ?_
  refine g_ifnonnull 12 18 rfl C dX0_give_9 rfl (fun a47 u46 => ?_) (fun u46 => ?_)
  · have w := w.2 a47 u46
    refine g_aload 20 rfl C dX0_give_18 rfl ?_
    refine g_iload_n 21 rfl C dX0_give_20 rfl ?_
    refine g_callS (As := [vI _]) (st := [vR [2, 3] _]) 24 rfl C dX0_give_21 q163 q164 q15 q165 okn_680428 (by decide) (by decide) (Nat.le_of_ble_eq_true rfl) rfl (ct_J5_valueOf C.glob w) (fun r0 h50 p51 x52 _ => ?_)
    obtain ⟨r49, rfl, w⟩ := p51
    have w := w x52
    change Gd _ _ _ _ (vR [4, 60] r49 :: [vR [2, 3] _])
    refine g_iload_n 25 rfl C dX0_give_24 rfl ?_
    refine g_callS (As := [vI _]) (st := [vR [4, 60] _, vR [2, 3] _]) 28 rfl C dX0_give_25 q163 q164 q15 q165 okn_680428 (by decide) (by decide) (Nat.le_of_ble_eq_true rfl) rfl (ct_J5_valueOf C.glob w) (fun r0 h55 p56 x57 _ => ?_)
    obtain ⟨r54, rfl, w⟩ := p56
    have w := w x57
    change Gd _ _ _ _ (vR [4, 60] r54 :: [vR [4, 60] _, vR [2, 3] _])
    rcases w with w | w
    · obtain ⟨k58, w⟩ := w
      refine g_callU (As := [vR [4, 60] _, vR [4, 60] _]) (T := [2, 3]) (st := []) "java/util/HashMap" 31 rfl C dX0_give_28 q526 q529 dcl_a3d4c5 q528 q527 q11 q533 okn_844235 (by decide) (by decide) (Nat.le_of_ble_eq_true rfl) u46 (fun _ => kC rfl k58) rfl (ct_J1_getOrDefault C.glob w) (fun r0 h60 p61 x62 _ => ?_)
      obtain ⟨r59, rfl, w⟩ := p61
      have w := w x62
      change Gd _ _ _ _ (vR [4, 60] r59 :: [])
      refine g_sub [none, none, none, none, none] [none] rfl rfl ?_
      exact wk_X0_give_b31 C Rr N _ _ w
    · obtain ⟨k63, w⟩ := w
      refine g_nar 2 [3] rfl u46 (by rw [k63]; decide) ?_
      refine g_callU (As := [vR [4, 60] _, vR [4, 60] _]) (T := [3]) (st := []) "java/util/LinkedHashMap" 31 rfl C dX0_give_28 q526 q529 dcl_a3d4c5 q530 q531 q12 q532 okn_844235 (by decide) (by decide) (Nat.le_of_ble_eq_true rfl) u46 (fun _ => kC rfl k63) rfl (ct_J2_getOrDefault C.glob w) (fun r0 h65 p66 x67 _ => ?_)
      obtain ⟨r64, rfl, w⟩ := p66
      have w := w x67
      change Gd _ _ _ _ (vR [4, 60] r64 :: [])
      refine g_sub [none, none, none, none, none] [none] rfl rfl ?_
      exact wk_X0_give_b31 C Rr N _ _ w
  · have w := w.1 u46
    refine g_ldc2 15 rfl C dX0_give_12 q162 ?_
    refine g_goto 37 C dX0_give_15 rfl ?_
    refine g_sub [none, none, none, none, none] [none] rfl rfl ?_
    exact wk_X0_give_b37 C Rr N _ _ w
theorem ct_X0_give {E : Gx} (GE : Glob E) {h : Hp} {x0 : Option Nat} {x1 : Int32} {x2 : Int32} {x3 : Int32} {K : Int64 → Hp → Prop} (w : wp_X0_give h x0 x1 x2 x3 K) : Ct E yX0_give cX0_give 5 (Option.some Jvm.ClassFile.FieldType.long) 8 [vR [1] x0, vI x1, vI x2, vI x3] h (pJ K) :=
  Ct.of GE (by decide +kernel) (by simp [lvA, t2]) rfl (fun X hX C Rr N => wk_X0_give C Rr N h x0 x1 x2 x3 w)
def wp_X0_remove_b30 (K : Int64 → Hp → Prop) (h : Hp) (s0 : Int64) : Prop :=
  (K s0 h)
set_option maxHeartbeats 4000000 in
theorem wk_X0_remove_b30 {X : Fx} {K : Int64 → Hp → Prop} (C : Cx X cX0_remove yX0_remove.cls 4 9) (Rr : Rx X (Option.some Jvm.ClassFile.FieldType.long) (pJ K)) (N : Nm X yX0_remove.name) (h : Hp) (s0 : Int64) (w : wp_X0_remove_b30 K h s0) : Gd X h 30 [none, none, none, none] [vL s0] := by
  unfold wp_X0_remove_b30 at w
  exact g_lreturn C Rr dX0_remove_30 ⟨_, rfl, w⟩
def wp_X0_remove_b24 (K : Int64 → Hp → Prop) (h : Hp) (s0 : Option Nat) : Prop :=
  (wp_X0_told h s0 (fun r28 h29 => Ex h h29 → (wp_X0_remove_b30 K h29 r28)))
set_option maxHeartbeats 4000000 in
theorem wk_X0_remove_b24 {X : Fx} {K : Int64 → Hp → Prop} (C : Cx X cX0_remove yX0_remove.cls 4 9) (Rr : Rx X (Option.some Jvm.ClassFile.FieldType.long) (pJ K)) (N : Nm X yX0_remove.name) (h : Hp) (s0 : Option Nat) (w : wp_X0_remove_b24 K h s0) : Gd X h 24 [none, none, none, none] [vR [4, 60] s0] := by
  unfold wp_X0_remove_b24 at w
  refine g_cast [4, 60] 27 rfl C dX0_remove_24 q482 co_Integer_4_60 (fun _ _ q => q) ?_
  refine g_callS (As := [vR [4, 60] _]) (st := []) 30 rfl C dX0_remove_27 q483 q484 q9 q485 okn_1f5479 (by decide) (by decide) (Nat.le_of_ble_eq_true rfl) rfl (ct_X0_told C.glob w) (fun r0 h29 p30 x31 _ => ?_)
  obtain ⟨r28, rfl, w⟩ := p30
  have w := w x31
  change Gd _ _ _ _ (vL r28 :: [])
  refine g_sub [none, none, none, none] [none] rfl rfl ?_
  exact wk_X0_remove_b30 C Rr N _ _ w
def wp_X0_remove (h : Hp) (x0 : Option Nat) (x1 : Int32) (x2 : Int32) (K : Int64 → Hp → Prop) : Prop :=
  (∃ a32, x0 = some a32 ∧ (wp_X0_map h x0 x1 (fun r35 h36 => Ex h h36 → ((r35 = none → (wp_X0_remove_b30 K h36 (1099511627777 : Int64))) ∧ (∀ a40, r35 = some a40 → (wp_J5_valueOf h36 x2 (fun r42 h43 => Ex h36 h43 → (wp_J1_remove h43 r35 r42 (fun r47 h48 => Ex h43 h48 → (wp_X0_remove_b24 K h48 r47))))))))))
set_option maxHeartbeats 4000000 in
theorem wk_X0_remove {X : Fx} {K : Int64 → Hp → Prop} (C : Cx X cX0_remove yX0_remove.cls 4 9) (Rr : Rx X (Option.some Jvm.ClassFile.FieldType.long) (pJ K)) (N : Nm X yX0_remove.name) (h : Hp) (x0 : Option Nat) (x1 : Int32) (x2 : Int32) (w : wp_X0_remove h x0 x1 x2 K) : Gd X h 0 [some (vR [1] x0), some (vI x1), some (vI x2), none] [] := by
  unfold wp_X0_remove at w
  refine g_aload_n 1 rfl C dX0_remove_0 rfl ?_
  refine g_iload_n 2 rfl C dX0_remove_1 rfl ?_
  obtain ⟨a32, e33, w⟩ := w
  refine g_callV (As := [vI _]) (T := [1]) (st := []) "HashHall" 5 rfl C dX0_remove_2 q158 q160 qs0 q9 q161 rfl okn_a136fc (by decide) (by decide) (Nat.le_of_ble_eq_true rfl) e33 (fun q => tC rfl q) rfl (ct_X0_map C.glob w) (fun r0 h36 p37 x38 _ => ?_)
  obtain ⟨r35, rfl, w⟩ := p37
  have w := w x38
  change Gd _ _ _ _ (vR [2, 3] r35 :: [])
  refine g_astore_n 6 rfl C dX0_remove_5 (by decide) (rfl : _ = [some (vR [1] _), some (vI _), some (vI _), some (vR [2, 3] _)]) ?_
  refine g_aload_n 7 rfl C dX0_remove_6 rfl ?_
  refine g_ifnonnull 10 16 rfl C dX0_remove_7 rfl (fun a40 u39 => ?_) (fun u39 => ?_)
  · have w := w.2 a40 u39
    refine g_aload_n 17 rfl C dX0_remove_16 rfl ?_
    refine g_iload_n 18 rfl C dX0_remove_17 rfl ?_
    refine g_callS (As := [vI _]) (st := [vR [2, 3] _]) 21 rfl C dX0_remove_18 q163 q164 q15 q165 okn_680428 (by decide) (by decide) (Nat.le_of_ble_eq_true rfl) rfl (ct_J5_valueOf C.glob w) (fun r0 h43 p44 x45 _ => ?_)
    obtain ⟨r42, rfl, w⟩ := p44
    have w := w x45
    change Gd _ _ _ _ (vR [4, 60] r42 :: [vR [2, 3] _])
    refine g_known 1 rfl u39 (fun k46 => ?_)
    have k46 : kd _ _ ∈ [2, 3] := k46
    simp only [List.mem_cons, List.not_mem_nil, or_false] at k46
    rcases k46 with k46 | k46
    · refine g_callU (As := [vR [4, 60] _]) (T := [2, 3]) (st := []) "java/util/HashMap" 24 rfl C dX0_remove_21 q538 q541 dcl_6e3a7c q540 q539 q11 q543 okn_1946f1 (by decide) (by decide) (Nat.le_of_ble_eq_true rfl) u39 (fun _ => kC rfl k46) rfl (ct_J1_remove C.glob w) (fun r0 h48 p49 x50 _ => ?_)
      obtain ⟨r47, rfl, w⟩ := p49
      have w := w x50
      change Gd _ _ _ _ (vR [4, 60] r47 :: [])
      refine g_sub [none, none, none, none] [none] rfl rfl ?_
      exact wk_X0_remove_b24 C Rr N _ _ w
    · refine g_callU (As := [vR [4, 60] _]) (T := [2, 3]) (st := []) "java/util/LinkedHashMap" 24 rfl C dX0_remove_21 q538 q541 dcl_6e3a7c q542 q539 q11 q543 okn_1946f1 (by decide) (by decide) (Nat.le_of_ble_eq_true rfl) u39 (fun _ => kC rfl k46) rfl (ct_J1_remove C.glob w) (fun r0 h48 p49 x50 _ => ?_)
      obtain ⟨r47, rfl, w⟩ := p49
      have w := w x50
      change Gd _ _ _ _ (vR [4, 60] r47 :: [])
      refine g_sub [none, none, none, none] [none] rfl rfl ?_
      exact wk_X0_remove_b24 C Rr N _ _ w
  · have w := w.1 u39
    refine g_ldc2 13 rfl C dX0_remove_10 q162 ?_
    refine g_goto 30 C dX0_remove_13 rfl ?_
    refine g_sub [none, none, none, none] [none] rfl rfl ?_
    exact wk_X0_remove_b30 C Rr N _ _ w
theorem ct_X0_remove {E : Gx} (GE : Glob E) {h : Hp} {x0 : Option Nat} {x1 : Int32} {x2 : Int32} {K : Int64 → Hp → Prop} (w : wp_X0_remove h x0 x1 x2 K) : Ct E yX0_remove cX0_remove 4 (Option.some Jvm.ClassFile.FieldType.long) 9 [vR [1] x0, vI x1, vI x2] h (pJ K) :=
  Ct.of GE (by decide +kernel) (by simp [lvA, t2]) rfl (fun X hX C Rr N => wk_X0_remove C Rr N h x0 x1 x2 w)
def wp_X0_take_b33 (K : Int32 → Hp → Prop) (h : Hp) (s0 : Int32) : Prop :=
  ((s0 = 0 ∨ s0 = 1) ∧ K s0 h)
set_option maxHeartbeats 4000000 in
theorem wk_X0_take_b33 {X : Fx} {K : Int32 → Hp → Prop} (C : Cx X cX0_take yX0_take.cls 5 9) (Rr : Rx X (Option.some Jvm.ClassFile.FieldType.boolean) (pI K)) (N : Nm X yX0_take.name) (h : Hp) (s0 : Int32) (w : wp_X0_take_b33 K h s0) : Gd X h 33 [none, none, none, none, none] [vI s0] := by
  unfold wp_X0_take_b33 at w
  exact g_zreturn C Rr dX0_take_33 w.1 ⟨_, rfl, w.2⟩
def wp_X0_take_b32 (K : Int32 → Hp → Prop) (h : Hp)  : Prop :=
  (wp_X0_take_b33 K h 0)
set_option maxHeartbeats 4000000 in
theorem wk_X0_take_b32 {X : Fx} {K : Int32 → Hp → Prop} (C : Cx X cX0_take yX0_take.cls 5 9) (Rr : Rx X (Option.some Jvm.ClassFile.FieldType.boolean) (pI K)) (N : Nm X yX0_take.name) (h : Hp)  (w : wp_X0_take_b32 K h ) : Gd X h 32 [none, none, none, none, none] [] := by
  unfold wp_X0_take_b32 at w
  refine g_iconst 33 rfl C dX0_take_32 0 rfl ?_
  refine g_sub [none, none, none, none, none] [none] rfl rfl ?_
  exact wk_X0_take_b33 C Rr N _ _ w
def wp_X0_take_b25 (K : Int32 → Hp → Prop) (h : Hp) (s0 : Int32) : Prop :=
  ((s0 = 0 → (wp_X0_take_b32 K h)) ∧ (¬ s0 = 0 → (wp_X0_take_b33 K h 1)))
set_option maxHeartbeats 4000000 in
theorem wk_X0_take_b25 {X : Fx} {K : Int32 → Hp → Prop} (C : Cx X cX0_take yX0_take.cls 5 9) (Rr : Rx X (Option.some Jvm.ClassFile.FieldType.boolean) (pI K)) (N : Nm X yX0_take.name) (h : Hp) (s0 : Int32) (w : wp_X0_take_b25 K h s0) : Gd X h 25 [none, none, none, none, none] [vI s0] := by
  unfold wp_X0_take_b25 at w
  refine g_if_eq 28 32 rfl C dX0_take_25 rfl (fun u28 => ?_) (fun u28 => ?_)
  · have w := w.1 u28
    refine g_sub [none, none, none, none, none] [] rfl rfl ?_
    exact wk_X0_take_b32 C Rr N _ w
  · have w := w.2 u28
    refine g_iconst 29 rfl C dX0_take_28 1 rfl ?_
    refine g_goto 33 C dX0_take_29 rfl ?_
    refine g_sub [none, none, none, none, none] [none] rfl rfl ?_
    exact wk_X0_take_b33 C Rr N _ _ w
def wp_X0_take (h : Hp) (x0 : Option Nat) (x1 : Int32) (x2 : Int32) (x3 : Int32) (K : Int32 → Hp → Prop) : Prop :=
  (∃ a29, x0 = some a29 ∧ (wp_X0_map h x0 x1 (fun r32 h33 => Ex h h33 → ((r32 = none → (wp_X0_take_b32 K h33)) ∧ (∀ a37, r32 = some a37 → (wp_J5_valueOf h33 x2 (fun r39 h40 => Ex h33 h40 → (wp_J5_valueOf h40 x3 (fun r44 h45 => Ex h40 h45 → (wp_J1_remove_2 h45 r32 r39 r44 (fun r49 h50 => Ex h45 h50 → (wp_X0_take_b25 K h50 r49))))))))))))
set_option maxHeartbeats 4000000 in
theorem wk_X0_take {X : Fx} {K : Int32 → Hp → Prop} (C : Cx X cX0_take yX0_take.cls 5 9) (Rr : Rx X (Option.some Jvm.ClassFile.FieldType.boolean) (pI K)) (N : Nm X yX0_take.name) (h : Hp) (x0 : Option Nat) (x1 : Int32) (x2 : Int32) (x3 : Int32) (w : wp_X0_take h x0 x1 x2 x3 K) : Gd X h 0 [some (vR [1] x0), some (vI x1), some (vI x2), some (vI x3), none] [] := by
  unfold wp_X0_take at w
  refine g_aload_n 1 rfl C dX0_take_0 rfl ?_
  refine g_iload_n 2 rfl C dX0_take_1 rfl ?_
  obtain ⟨a29, e30, w⟩ := w
  refine g_callV (As := [vI _]) (T := [1]) (st := []) "HashHall" 5 rfl C dX0_take_2 q158 q160 qs0 q9 q161 rfl okn_a136fc (by decide) (by decide) (Nat.le_of_ble_eq_true rfl) e30 (fun q => tC rfl q) rfl (ct_X0_map C.glob w) (fun r0 h33 p34 x35 _ => ?_)
  obtain ⟨r32, rfl, w⟩ := p34
  have w := w x35
  change Gd _ _ _ _ (vR [2, 3] r32 :: [])
  refine g_astore 7 rfl C dX0_take_5 (by decide) (rfl : _ = [some (vR [1] _), some (vI _), some (vI _), some (vI _), some (vR [2, 3] _)]) ?_
  refine g_aload 9 rfl C dX0_take_7 rfl ?_
  refine g_ifnull 12 32 rfl C dX0_take_9 rfl (fun u36 => ?_) (fun a37 u36 => ?_)
  · have w := w.1 u36
    refine g_sub [none, none, none, none, none] [] rfl rfl ?_
    exact wk_X0_take_b32 C Rr N _ w
  · have w := w.2 a37 u36
    refine g_aload 14 rfl C dX0_take_12 rfl ?_
    refine g_iload_n 15 rfl C dX0_take_14 rfl ?_
    refine g_callS (As := [vI _]) (st := [vR [2, 3] _]) 18 rfl C dX0_take_15 q163 q164 q15 q165 okn_680428 (by decide) (by decide) (Nat.le_of_ble_eq_true rfl) rfl (ct_J5_valueOf C.glob w) (fun r0 h40 p41 x42 _ => ?_)
    obtain ⟨r39, rfl, w⟩ := p41
    have w := w x42
    change Gd _ _ _ _ (vR [4, 60] r39 :: [vR [2, 3] _])
    refine g_iload_n 19 rfl C dX0_take_18 rfl ?_
    refine g_callS (As := [vI _]) (st := [vR [4, 60] _, vR [2, 3] _]) 22 rfl C dX0_take_19 q163 q164 q15 q165 okn_680428 (by decide) (by decide) (Nat.le_of_ble_eq_true rfl) rfl (ct_J5_valueOf C.glob w) (fun r0 h45 p46 x47 _ => ?_)
    obtain ⟨r44, rfl, w⟩ := p46
    have w := w x47
    change Gd _ _ _ _ (vR [4, 60] r44 :: [vR [4, 60] _, vR [2, 3] _])
    refine g_known 2 rfl u36 (fun k48 => ?_)
    have k48 : kd _ _ ∈ [2, 3] := k48
    simp only [List.mem_cons, List.not_mem_nil, or_false] at k48
    rcases k48 with k48 | k48
    · refine g_callU (As := [vR [4, 60] _, vR [4, 60] _]) (T := [2, 3]) (st := []) "java/util/HashMap" 25 rfl C dX0_take_22 q569 q572 dcl_d748ea q571 q570 q11 q574 okn_b53477 (by decide) (by decide) (Nat.le_of_ble_eq_true rfl) u36 (fun _ => kC rfl k48) rfl (ct_J1_remove_2 C.glob w) (fun r0 h50 p51 x52 _ => ?_)
      obtain ⟨r49, rfl, w⟩ := p51
      have w := w x52
      change Gd _ _ _ _ (vI r49 :: [])
      refine g_sub [none, none, none, none, none] [none] rfl rfl ?_
      exact wk_X0_take_b25 C Rr N _ _ w
    · refine g_callU (As := [vR [4, 60] _, vR [4, 60] _]) (T := [2, 3]) (st := []) "java/util/LinkedHashMap" 25 rfl C dX0_take_22 q569 q572 dcl_d748ea q573 q570 q11 q574 okn_b53477 (by decide) (by decide) (Nat.le_of_ble_eq_true rfl) u36 (fun _ => kC rfl k48) rfl (ct_J1_remove_2 C.glob w) (fun r0 h50 p51 x52 _ => ?_)
      obtain ⟨r49, rfl, w⟩ := p51
      have w := w x52
      change Gd _ _ _ _ (vI r49 :: [])
      refine g_sub [none, none, none, none, none] [none] rfl rfl ?_
      exact wk_X0_take_b25 C Rr N _ _ w
theorem ct_X0_take {E : Gx} (GE : Glob E) {h : Hp} {x0 : Option Nat} {x1 : Int32} {x2 : Int32} {x3 : Int32} {K : Int32 → Hp → Prop} (w : wp_X0_take h x0 x1 x2 x3 K) : Ct E yX0_take cX0_take 5 (Option.some Jvm.ClassFile.FieldType.boolean) 9 [vR [1] x0, vI x1, vI x2, vI x3] h (pI K) :=
  Ct.of GE (by decide +kernel) (by simp [lvA, t2]) rfl (fun X hX C Rr N => wk_X0_take C Rr N h x0 x1 x2 x3 w)
def wp_X0_has_b54 (K : Int32 → Hp → Prop) (h : Hp) (s0 : Int32) : Prop :=
  ((s0 = 0 ∨ s0 = 1) ∧ K s0 h)
set_option maxHeartbeats 4000000 in
theorem wk_X0_has_b54 {X : Fx} {K : Int32 → Hp → Prop} (C : Cx X cX0_has yX0_has.cls 6 8) (Rr : Rx X (Option.some Jvm.ClassFile.FieldType.boolean) (pI K)) (N : Nm X yX0_has.name) (h : Hp) (s0 : Int32) (w : wp_X0_has_b54 K h s0) : Gd X h 54 [none, none, none, none, none, none] [vI s0] := by
  unfold wp_X0_has_b54 at w
  exact g_zreturn C Rr dX0_has_54 w.1 ⟨_, rfl, w.2⟩
def wp_X0_has_b49 (K : Int32 → Hp → Prop) (h : Hp)  : Prop :=
  (wp_X0_has_b54 K h 1)
set_option maxHeartbeats 4000000 in
theorem wk_X0_has_b49 {X : Fx} {K : Int32 → Hp → Prop} (C : Cx X cX0_has yX0_has.cls 6 8) (Rr : Rx X (Option.some Jvm.ClassFile.FieldType.boolean) (pI K)) (N : Nm X yX0_has.name) (h : Hp)  (w : wp_X0_has_b49 K h ) : Gd X h 49 [none, none, none, none, none, none] [] := by
  unfold wp_X0_has_b49 at w
  refine g_iconst 50 rfl C dX0_has_49 1 rfl ?_
  refine g_goto 54 C dX0_has_50 rfl ?_
  refine g_sub [none, none, none, none, none, none] [none] rfl rfl ?_
  exact wk_X0_has_b54 C Rr N _ _ w
def wp_X0_has_b53 (K : Int32 → Hp → Prop) (h : Hp)  : Prop :=
  (wp_X0_has_b54 K h 0)
set_option maxHeartbeats 4000000 in
theorem wk_X0_has_b53 {X : Fx} {K : Int32 → Hp → Prop} (C : Cx X cX0_has yX0_has.cls 6 8) (Rr : Rx X (Option.some Jvm.ClassFile.FieldType.boolean) (pI K)) (N : Nm X yX0_has.name) (h : Hp)  (w : wp_X0_has_b53 K h ) : Gd X h 53 [none, none, none, none, none, none] [] := by
  unfold wp_X0_has_b53 at w
  refine g_iconst 54 rfl C dX0_has_53 0 rfl ?_
  refine g_sub [none, none, none, none, none, none] [none] rfl rfl ?_
  exact wk_X0_has_b54 C Rr N _ _ w
def wp_X0_has_b46 (K : Int32 → Hp → Prop) (h : Hp) (s0 : Int32) : Prop :=
  ((s0 = 0 → (wp_X0_has_b53 K h)) ∧ (¬ s0 = 0 → (wp_X0_has_b49 K h)))
set_option maxHeartbeats 4000000 in
theorem wk_X0_has_b46 {X : Fx} {K : Int32 → Hp → Prop} (C : Cx X cX0_has yX0_has.cls 6 8) (Rr : Rx X (Option.some Jvm.ClassFile.FieldType.boolean) (pI K)) (N : Nm X yX0_has.name) (h : Hp) (s0 : Int32) (w : wp_X0_has_b46 K h s0) : Gd X h 46 [none, none, none, none, none, none] [vI s0] := by
  unfold wp_X0_has_b46 at w
  refine g_if_eq 49 53 rfl C dX0_has_46 rfl (fun u75 => ?_) (fun u75 => ?_)
  · have w := w.1 u75
    refine g_sub [none, none, none, none, none, none] [] rfl rfl ?_
    exact wk_X0_has_b53 C Rr N _ w
  · have w := w.2 u75
    refine g_sub [none, none, none, none, none, none] [] rfl rfl ?_
    exact wk_X0_has_b49 C Rr N _ w
def wp_X0_has_b34 (K : Int32 → Hp → Prop) (h : Hp) (l2 : Int32) (l4 : Option Nat) (l5 : Option Nat) : Prop :=
  ((¬ l2 = 1 → (wp_X0_has_b53 K h)) ∧ (l2 = 1 → ((∃ a61, l4 = some a61 ∧ (kd h a61 = 2 ∧ (wp_J1_containsValue h l4 l5 (fun r64 h65 => Ex h h65 → (wp_X0_has_b46 K h65 r64))))) ∨ (∃ a68, l4 = some a68 ∧ (kd h a68 = 3 ∧ (wp_J2_containsValue h l4 l5 (fun r71 h72 => Ex h h72 → (wp_X0_has_b46 K h72 r71))))))))
set_option maxHeartbeats 4000000 in
theorem wk_X0_has_b34 {X : Fx} {K : Int32 → Hp → Prop} (C : Cx X cX0_has yX0_has.cls 6 8) (Rr : Rx X (Option.some Jvm.ClassFile.FieldType.boolean) (pI K)) (N : Nm X yX0_has.name) (h : Hp) (l2 : Int32) (l4 : Option Nat) (l5 : Option Nat) (w : wp_X0_has_b34 K h l2 l4 l5) : Gd X h 34 [none, none, some (vI l2), none, some (vR [2, 3] l4), some (vR [4, 60] l5)] [] := by
  unfold wp_X0_has_b34 at w
  refine g_iload_n 35 rfl C dX0_has_34 rfl ?_
  refine g_iconst 36 rfl C dX0_has_35 1 rfl ?_
  refine g_icmp_ne 39 53 rfl C dX0_has_36 rfl (fun u60 => ?_) (fun u60 => ?_)
  · have w := w.1 u60
    refine g_sub [none, none, none, none, none, none] [] rfl rfl ?_
    exact wk_X0_has_b53 C Rr N _ w
  · have w := w.2 u60
    refine g_aload 41 rfl C dX0_has_39 rfl ?_
    refine g_aload 43 rfl C dX0_has_41 rfl ?_
    rcases w with w | w
    · obtain ⟨a61, e62, w⟩ := w
      obtain ⟨k63, w⟩ := w
      refine g_callU (As := [vR [4, 60] _]) (T := [2, 3]) (st := []) "java/util/HashMap" 46 rfl C dX0_has_43 q585 q588 dcl_2c9a70 q587 q586 q11 q593 okn_3b63a3 (by decide) (by decide) (Nat.le_of_ble_eq_true rfl) e62 (fun _ => kC rfl k63) rfl (ct_J1_containsValue C.glob w) (fun r0 h65 p66 x67 _ => ?_)
      obtain ⟨r64, rfl, w⟩ := p66
      have w := w x67
      change Gd _ _ _ _ (vI r64 :: [])
      refine g_sub [none, none, none, none, none, none] [none] rfl rfl ?_
      exact wk_X0_has_b46 C Rr N _ _ w
    · obtain ⟨a68, e69, w⟩ := w
      obtain ⟨k70, w⟩ := w
      refine g_nar 1 [3] rfl e69 (by rw [k70]; decide) ?_
      refine g_callU (As := [vR [4, 60] _]) (T := [3]) (st := []) "java/util/LinkedHashMap" 46 rfl C dX0_has_43 q585 q588 dcl_2c9a70 q589 q590 q12 q591 okn_3b63a3 (by decide) (by decide) (Nat.le_of_ble_eq_true rfl) e69 (fun _ => kC rfl k70) rfl (ct_J2_containsValue C.glob w) (fun r0 h72 p73 x74 _ => ?_)
      obtain ⟨r71, rfl, w⟩ := p73
      have w := w x74
      change Gd _ _ _ _ (vI r71 :: [])
      refine g_sub [none, none, none, none, none, none] [none] rfl rfl ?_
      exact wk_X0_has_b46 C Rr N _ _ w
def wp_X0_has_b31 (K : Int32 → Hp → Prop) (h : Hp) (l2 : Int32) (l4 : Option Nat) (l5 : Option Nat) (s0 : Int32) : Prop :=
  ((¬ s0 = 0 → (wp_X0_has_b49 K h)) ∧ (s0 = 0 → (wp_X0_has_b34 K h l2 l4 l5)))
set_option maxHeartbeats 4000000 in
theorem wk_X0_has_b31 {X : Fx} {K : Int32 → Hp → Prop} (C : Cx X cX0_has yX0_has.cls 6 8) (Rr : Rx X (Option.some Jvm.ClassFile.FieldType.boolean) (pI K)) (N : Nm X yX0_has.name) (h : Hp) (l2 : Int32) (l4 : Option Nat) (l5 : Option Nat) (s0 : Int32) (w : wp_X0_has_b31 K h l2 l4 l5 s0) : Gd X h 31 [none, none, some (vI l2), none, some (vR [2, 3] l4), some (vR [4, 60] l5)] [vI s0] := by
  unfold wp_X0_has_b31 at w
  refine g_if_ne 34 49 rfl C dX0_has_31 rfl (fun u76 => ?_) (fun u76 => ?_)
  · have w := w.1 u76
    refine g_sub [none, none, none, none, none, none] [] rfl rfl ?_
    exact wk_X0_has_b49 C Rr N _ w
  · have w := w.2 u76
    refine g_sub [none, none, some none, none, some none, some none] [] rfl rfl ?_
    exact wk_X0_has_b34 C Rr N _ _ _ _ w
def wp_X0_has (h : Hp) (x0 : Option Nat) (x1 : Int32) (x2 : Int32) (x3 : Int32) (K : Int32 → Hp → Prop) : Prop :=
  (∃ a40, x0 = some a40 ∧ (wp_X0_map h x0 x1 (fun r43 h44 => Ex h h44 → ((r43 = none → (K 0 h44)) ∧ (∀ a48, r43 = some a48 → (wp_J5_valueOf h44 x3 (fun r50 h51 => Ex h44 h51 → ((¬ x2 = 0 → (wp_X0_has_b34 K h51 x2 r43 r50)) ∧ (x2 = 0 → (wp_J1_containsKey h51 r43 r50 (fun r56 h57 => Ex h51 h57 → (wp_X0_has_b31 K h57 x2 r43 r50 r56))))))))))))
set_option maxHeartbeats 4000000 in
theorem wk_X0_has {X : Fx} {K : Int32 → Hp → Prop} (C : Cx X cX0_has yX0_has.cls 6 8) (Rr : Rx X (Option.some Jvm.ClassFile.FieldType.boolean) (pI K)) (N : Nm X yX0_has.name) (h : Hp) (x0 : Option Nat) (x1 : Int32) (x2 : Int32) (x3 : Int32) (w : wp_X0_has h x0 x1 x2 x3 K) : Gd X h 0 [some (vR [1] x0), some (vI x1), some (vI x2), some (vI x3), none, none] [] := by
  unfold wp_X0_has at w
  refine g_aload_n 1 rfl C dX0_has_0 rfl ?_
  refine g_iload_n 2 rfl C dX0_has_1 rfl ?_
  obtain ⟨a40, e41, w⟩ := w
  refine g_callV (As := [vI _]) (T := [1]) (st := []) "HashHall" 5 rfl C dX0_has_2 q158 q160 qs0 q9 q161 rfl okn_a136fc (by decide) (by decide) (Nat.le_of_ble_eq_true rfl) e41 (fun q => tC rfl q) rfl (ct_X0_map C.glob w) (fun r0 h44 p45 x46 _ => ?_)
  obtain ⟨r43, rfl, w⟩ := p45
  have w := w x46
  change Gd _ _ _ _ (vR [2, 3] r43 :: [])
  refine g_astore 7 rfl C dX0_has_5 (by decide) (rfl : _ = [some (vR [1] _), some (vI _), some (vI _), some (vI _), some (vR [2, 3] _), none]) ?_
  refine g_aload 9 rfl C dX0_has_7 rfl ?_
  refine g_ifnonnull 12 14 rfl C dX0_has_9 rfl (fun a48 u47 => ?_) (fun u47 => ?_)
  · have w := w.2 a48 u47
    refine g_iload_n 15 rfl C dX0_has_14 rfl ?_
    refine g_callS (As := [vI _]) (st := []) 18 rfl C dX0_has_15 q163 q164 q15 q165 okn_680428 (by decide) (by decide) (Nat.le_of_ble_eq_true rfl) rfl (ct_J5_valueOf C.glob w) (fun r0 h51 p52 x53 _ => ?_)
    obtain ⟨r50, rfl, w⟩ := p52
    have w := w x53
    change Gd _ _ _ _ (vR [4, 60] r50 :: [])
    refine g_astore 20 rfl C dX0_has_18 (by decide) (rfl : _ = [some (vR [1] _), some (vI _), some (vI _), some (vI _), some (vR [2, 3] _), some (vR [4, 60] _)]) ?_
    refine g_iload_n 21 rfl C dX0_has_20 rfl ?_
    refine g_if_ne 24 34 rfl C dX0_has_21 rfl (fun u54 => ?_) (fun u54 => ?_)
    · have w := w.1 u54
      refine g_sub [none, none, some none, none, some none, some none] [] rfl rfl ?_
      exact wk_X0_has_b34 C Rr N _ _ _ _ w
    · have w := w.2 u54
      refine g_aload 26 rfl C dX0_has_24 rfl ?_
      refine g_aload 28 rfl C dX0_has_26 rfl ?_
      refine g_known 1 rfl u47 (fun k55 => ?_)
      have k55 : kd _ _ ∈ [2, 3] := k55
      simp only [List.mem_cons, List.not_mem_nil, or_false] at k55
      rcases k55 with k55 | k55
      · refine g_callU (As := [vR [4, 60] _]) (T := [2, 3]) (st := []) "java/util/HashMap" 31 rfl C dX0_has_28 q579 q582 dcl_4b1e20 q581 q580 q11 q584 okn_5d22b1 (by decide) (by decide) (Nat.le_of_ble_eq_true rfl) u47 (fun _ => kC rfl k55) rfl (ct_J1_containsKey C.glob w) (fun r0 h57 p58 x59 _ => ?_)
        obtain ⟨r56, rfl, w⟩ := p58
        have w := w x59
        change Gd _ _ _ _ (vI r56 :: [])
        refine g_sub [none, none, some none, none, some none, some none] [none] rfl rfl ?_
        exact wk_X0_has_b31 C Rr N _ _ _ _ _ w
      · refine g_callU (As := [vR [4, 60] _]) (T := [2, 3]) (st := []) "java/util/LinkedHashMap" 31 rfl C dX0_has_28 q579 q582 dcl_4b1e20 q583 q580 q11 q584 okn_5d22b1 (by decide) (by decide) (Nat.le_of_ble_eq_true rfl) u47 (fun _ => kC rfl k55) rfl (ct_J1_containsKey C.glob w) (fun r0 h57 p58 x59 _ => ?_)
        obtain ⟨r56, rfl, w⟩ := p58
        have w := w x59
        change Gd _ _ _ _ (vI r56 :: [])
        refine g_sub [none, none, some none, none, some none, some none] [none] rfl rfl ?_
        exact wk_X0_has_b31 C Rr N _ _ _ _ _ w
  · have w := w.1 u47
    refine g_iconst 13 rfl C dX0_has_12 0 rfl ?_
    exact g_zreturn C Rr dX0_has_13 (Or.inl rfl) ⟨_, rfl, w⟩
theorem ct_X0_has {E : Gx} (GE : Glob E) {h : Hp} {x0 : Option Nat} {x1 : Int32} {x2 : Int32} {x3 : Int32} {K : Int32 → Hp → Prop} (w : wp_X0_has h x0 x1 x2 x3 K) : Ct E yX0_has cX0_has 6 (Option.some Jvm.ClassFile.FieldType.boolean) 8 [vR [1] x0, vI x1, vI x2, vI x3] h (pI K) :=
  Ct.of GE (by decide +kernel) (by simp [lvA, t2]) rfl (fun X hX C Rr N => wk_X0_has C Rr N h x0 x1 x2 x3 w)
def wp_X0_size_b18 (K : Int32 → Hp → Prop) (h : Hp) (s0 : Int32) : Prop :=
  (K s0 h)
set_option maxHeartbeats 4000000 in
theorem wk_X0_size_b18 {X : Fx} {K : Int32 → Hp → Prop} (C : Cx X cX0_size yX0_size.cls 3 3) (Rr : Rx X (Option.some Jvm.ClassFile.FieldType.int) (pI K)) (N : Nm X yX0_size.name) (h : Hp) (s0 : Int32) (w : wp_X0_size_b18 K h s0) : Gd X h 18 [none, none, none] [vI s0] := by
  unfold wp_X0_size_b18 at w
  exact g_ireturn C Rr dX0_size_18 ⟨_, rfl, w⟩
def wp_X0_size (h : Hp) (x0 : Option Nat) (x1 : Int32) (K : Int32 → Hp → Prop) : Prop :=
  (∃ a17, x0 = some a17 ∧ (wp_X0_map h x0 x1 (fun r20 h21 => Ex h h21 → ((r20 = none → (wp_X0_size_b18 K h21 (-1))) ∧ (∀ a25, r20 = some a25 → (wp_J1_size h21 r20 (fun r27 h28 => Ex h21 h28 → (wp_X0_size_b18 K h28 r27))))))))
set_option maxHeartbeats 4000000 in
theorem wk_X0_size {X : Fx} {K : Int32 → Hp → Prop} (C : Cx X cX0_size yX0_size.cls 3 3) (Rr : Rx X (Option.some Jvm.ClassFile.FieldType.int) (pI K)) (N : Nm X yX0_size.name) (h : Hp) (x0 : Option Nat) (x1 : Int32) (w : wp_X0_size h x0 x1 K) : Gd X h 0 [some (vR [1] x0), some (vI x1), none] [] := by
  unfold wp_X0_size at w
  refine g_aload_n 1 rfl C dX0_size_0 rfl ?_
  refine g_iload_n 2 rfl C dX0_size_1 rfl ?_
  obtain ⟨a17, e18, w⟩ := w
  refine g_callV (As := [vI _]) (T := [1]) (st := []) "HashHall" 5 rfl C dX0_size_2 q158 q160 qs0 q9 q161 rfl okn_a136fc (by decide) (by decide) (Nat.le_of_ble_eq_true rfl) e18 (fun q => tC rfl q) rfl (ct_X0_map C.glob w) (fun r0 h21 p22 x23 _ => ?_)
  obtain ⟨r20, rfl, w⟩ := p22
  have w := w x23
  change Gd _ _ _ _ (vR [2, 3] r20 :: [])
  refine g_astore_n 6 rfl C dX0_size_5 (by decide) (rfl : _ = [some (vR [1] _), some (vI _), some (vR [2, 3] _)]) ?_
  refine g_aload_n 7 rfl C dX0_size_6 rfl ?_
  refine g_ifnonnull 10 14 rfl C dX0_size_7 rfl (fun a25 u24 => ?_) (fun u24 => ?_)
  · have w := w.2 a25 u24
    refine g_aload_n 15 rfl C dX0_size_14 rfl ?_
    refine g_known 0 rfl u24 (fun k26 => ?_)
    have k26 : kd _ _ ∈ [2, 3] := k26
    simp only [List.mem_cons, List.not_mem_nil, or_false] at k26
    rcases k26 with k26 | k26
    · refine g_callU (As := []) (T := [2, 3]) (st := []) "java/util/HashMap" 18 rfl C dX0_size_15 q598 q601 dcl_3acc5a q600 q599 q11 q603 okn_2c64e6 (by decide) (by decide) (Nat.le_of_ble_eq_true rfl) u24 (fun _ => kC rfl k26) rfl (ct_J1_size C.glob w) (fun r0 h28 p29 x30 _ => ?_)
      obtain ⟨r27, rfl, w⟩ := p29
      have w := w x30
      change Gd _ _ _ _ (vI r27 :: [])
      refine g_sub [none, none, none] [none] rfl rfl ?_
      exact wk_X0_size_b18 C Rr N _ _ w
    · refine g_callU (As := []) (T := [2, 3]) (st := []) "java/util/LinkedHashMap" 18 rfl C dX0_size_15 q598 q601 dcl_3acc5a q602 q599 q11 q603 okn_2c64e6 (by decide) (by decide) (Nat.le_of_ble_eq_true rfl) u24 (fun _ => kC rfl k26) rfl (ct_J1_size C.glob w) (fun r0 h28 p29 x30 _ => ?_)
      obtain ⟨r27, rfl, w⟩ := p29
      have w := w x30
      change Gd _ _ _ _ (vI r27 :: [])
      refine g_sub [none, none, none] [none] rfl rfl ?_
      exact wk_X0_size_b18 C Rr N _ _ w
  · have w := w.1 u24
    refine g_iconst 11 rfl C dX0_size_10 (-1) rfl ?_
    refine g_goto 18 C dX0_size_11 rfl ?_
    refine g_sub [none, none, none] [none] rfl rfl ?_
    exact wk_X0_size_b18 C Rr N _ _ w
theorem ct_X0_size {E : Gx} (GE : Glob E) {h : Hp} {x0 : Option Nat} {x1 : Int32} {K : Int32 → Hp → Prop} (w : wp_X0_size h x0 x1 K) : Ct E yX0_size cX0_size 3 (Option.some Jvm.ClassFile.FieldType.int) 3 [vR [1] x0, vI x1] h (pI K) :=
  Ct.of GE (by decide +kernel) (by simp [lvA, t2]) rfl (fun X hX C Rr N => wk_X0_size C Rr N h x0 x1 w)
def wp_X0_clear_b21 (K : Int32 → Hp → Prop) (h : Hp) (l3 : Int32) : Prop :=
  (K l3 h)
set_option maxHeartbeats 4000000 in
theorem wk_X0_clear_b21 {X : Fx} {K : Int32 → Hp → Prop} (C : Cx X cX0_clear yX0_clear.cls 4 4) (Rr : Rx X (Option.some Jvm.ClassFile.FieldType.int) (pI K)) (N : Nm X yX0_clear.name) (h : Hp) (l3 : Int32) (w : wp_X0_clear_b21 K h l3) : Gd X h 21 [none, none, none, some (vI l3)] [] := by
  unfold wp_X0_clear_b21 at w
  refine g_iload_n 22 rfl C dX0_clear_21 rfl ?_
  exact g_ireturn C Rr dX0_clear_22 ⟨_, rfl, w⟩
def wp_X0_clear_b16 (K : Int32 → Hp → Prop) (h : Hp) (l2 : Option Nat) (s0 : Int32) : Prop :=
  ((∃ a31, l2 = some a31 ∧ (kd h a31 = 2 ∧ (wp_J1_clear h l2 (fun h35 => Ex h h35 → (wp_X0_clear_b21 K h35 s0))))) ∨ (∃ a38, l2 = some a38 ∧ (kd h a38 = 3 ∧ (wp_J2_clear h l2 (fun h42 => Ex h h42 → (wp_X0_clear_b21 K h42 s0))))))
set_option maxHeartbeats 4000000 in
theorem wk_X0_clear_b16 {X : Fx} {K : Int32 → Hp → Prop} (C : Cx X cX0_clear yX0_clear.cls 4 4) (Rr : Rx X (Option.some Jvm.ClassFile.FieldType.int) (pI K)) (N : Nm X yX0_clear.name) (h : Hp) (l2 : Option Nat) (s0 : Int32) (w : wp_X0_clear_b16 K h l2 s0) : Gd X h 16 [none, none, some (vR [2, 3] l2), none] [vI s0] := by
  unfold wp_X0_clear_b16 at w
  refine g_istore_n 17 rfl C dX0_clear_16 (by decide) (rfl : _ = [none, none, some (vR [2, 3] _), some (vI _)]) ?_
  refine g_aload_n 18 rfl C dX0_clear_17 rfl ?_
  rcases w with w | w
  · obtain ⟨a31, e32, w⟩ := w
    obtain ⟨k33, w⟩ := w
    refine g_callU (As := []) (T := [2, 3]) (st := []) "java/util/HashMap" 21 rfl C dX0_clear_18 q608 q611 dcl_3a17e5 q610 q609 q11 q616 okn_3872f0 (by decide) (by decide) (Nat.le_of_ble_eq_true rfl) e32 (fun _ => kC rfl k33) rfl (ct_J1_clear C.glob w) (fun r0 h35 p36 x37 _ => ?_)
    obtain ⟨rfl, w⟩ := p36
    have w := w x37
    change Gd _ _ _ _ []
    refine g_sub [none, none, none, some none] [] rfl rfl ?_
    exact wk_X0_clear_b21 C Rr N _ _ w
  · obtain ⟨a38, e39, w⟩ := w
    obtain ⟨k40, w⟩ := w
    refine g_nar 0 [3] rfl e39 (by rw [k40]; decide) ?_
    refine g_callU (As := []) (T := [3]) (st := []) "java/util/LinkedHashMap" 21 rfl C dX0_clear_18 q608 q611 dcl_3a17e5 q612 q613 q12 q614 okn_3872f0 (by decide) (by decide) (Nat.le_of_ble_eq_true rfl) e39 (fun _ => kC rfl k40) rfl (ct_J2_clear C.glob w) (fun r0 h42 p43 x44 _ => ?_)
    obtain ⟨rfl, w⟩ := p43
    have w := w x44
    change Gd _ _ _ _ []
    refine g_sub [none, none, none, some none] [] rfl rfl ?_
    exact wk_X0_clear_b21 C Rr N _ _ w
def wp_X0_clear (h : Hp) (x0 : Option Nat) (x1 : Int32) (K : Int32 → Hp → Prop) : Prop :=
  (∃ a45, x0 = some a45 ∧ (wp_X0_map h x0 x1 (fun r48 h49 => Ex h h49 → ((r48 = none → (K (-1) h49)) ∧ (∀ a53, r48 = some a53 → (wp_J1_size h49 r48 (fun r55 h56 => Ex h49 h56 → (wp_X0_clear_b16 K h56 r48 r55))))))))
set_option maxHeartbeats 4000000 in
theorem wk_X0_clear {X : Fx} {K : Int32 → Hp → Prop} (C : Cx X cX0_clear yX0_clear.cls 4 4) (Rr : Rx X (Option.some Jvm.ClassFile.FieldType.int) (pI K)) (N : Nm X yX0_clear.name) (h : Hp) (x0 : Option Nat) (x1 : Int32) (w : wp_X0_clear h x0 x1 K) : Gd X h 0 [some (vR [1] x0), some (vI x1), none, none] [] := by
  unfold wp_X0_clear at w
  refine g_aload_n 1 rfl C dX0_clear_0 rfl ?_
  refine g_iload_n 2 rfl C dX0_clear_1 rfl ?_
  obtain ⟨a45, e46, w⟩ := w
  refine g_callV (As := [vI _]) (T := [1]) (st := []) "HashHall" 5 rfl C dX0_clear_2 q158 q160 qs0 q9 q161 rfl okn_a136fc (by decide) (by decide) (Nat.le_of_ble_eq_true rfl) e46 (fun q => tC rfl q) rfl (ct_X0_map C.glob w) (fun r0 h49 p50 x51 _ => ?_)
  obtain ⟨r48, rfl, w⟩ := p50
  have w := w x51
  change Gd _ _ _ _ (vR [2, 3] r48 :: [])
  refine g_astore_n 6 rfl C dX0_clear_5 (by decide) (rfl : _ = [some (vR [1] _), some (vI _), some (vR [2, 3] _), none]) ?_
  refine g_aload_n 7 rfl C dX0_clear_6 rfl ?_
  refine g_ifnonnull 10 12 rfl C dX0_clear_7 rfl (fun a53 u52 => ?_) (fun u52 => ?_)
  · have w := w.2 a53 u52
    refine g_aload_n 13 rfl C dX0_clear_12 rfl ?_
    refine g_known 0 rfl u52 (fun k54 => ?_)
    have k54 : kd _ _ ∈ [2, 3] := k54
    simp only [List.mem_cons, List.not_mem_nil, or_false] at k54
    rcases k54 with k54 | k54
    · refine g_callU (As := []) (T := [2, 3]) (st := []) "java/util/HashMap" 16 rfl C dX0_clear_13 q598 q601 dcl_3acc5a q600 q599 q11 q603 okn_2c64e6 (by decide) (by decide) (Nat.le_of_ble_eq_true rfl) u52 (fun _ => kC rfl k54) rfl (ct_J1_size C.glob w) (fun r0 h56 p57 x58 _ => ?_)
      obtain ⟨r55, rfl, w⟩ := p57
      have w := w x58
      change Gd _ _ _ _ (vI r55 :: [])
      refine g_sub [none, none, some none, none] [none] rfl rfl ?_
      exact wk_X0_clear_b16 C Rr N _ _ _ w
    · refine g_callU (As := []) (T := [2, 3]) (st := []) "java/util/LinkedHashMap" 16 rfl C dX0_clear_13 q598 q601 dcl_3acc5a q602 q599 q11 q603 okn_2c64e6 (by decide) (by decide) (Nat.le_of_ble_eq_true rfl) u52 (fun _ => kC rfl k54) rfl (ct_J1_size C.glob w) (fun r0 h56 p57 x58 _ => ?_)
      obtain ⟨r55, rfl, w⟩ := p57
      have w := w x58
      change Gd _ _ _ _ (vI r55 :: [])
      refine g_sub [none, none, some none, none] [none] rfl rfl ?_
      exact wk_X0_clear_b16 C Rr N _ _ _ w
  · have w := w.1 u52
    refine g_iconst 11 rfl C dX0_clear_10 (-1) rfl ?_
    exact g_ireturn C Rr dX0_clear_11 ⟨_, rfl, w⟩
theorem ct_X0_clear {E : Gx} (GE : Glob E) {h : Hp} {x0 : Option Nat} {x1 : Int32} {K : Int32 → Hp → Prop} (w : wp_X0_clear h x0 x1 K) : Ct E yX0_clear cX0_clear 4 (Option.some Jvm.ClassFile.FieldType.int) 4 [vR [1] x0, vI x1] h (pI K) :=
  Ct.of GE (by decide +kernel) (by simp [lvA, t2]) rfl (fun X hX C Rr N => wk_X0_clear C Rr N h x0 x1 w)
def wp_X0_hasAll_b34 (G10 : Hp → Option Nat → Option Nat → Prop) (K : Int32 → Hp → Prop) (h : Hp) (l0 : Option Nat) (l2 : Option Nat) (s0 : Int32) : Prop :=
  ((¬ s0 = 0 → (G10 h l0 l2)) ∧ (s0 = 0 → (K 0 h)))
set_option maxHeartbeats 4000000 in
theorem wk_X0_hasAll_b34 {X : Fx} {K : Int32 → Hp → Prop} (C : Cx X cX0_hasAll yX0_hasAll.cls 4 8) (Rr : Rx X (Option.some Jvm.ClassFile.FieldType.boolean) (pI K)) (N : Nm X yX0_hasAll.name) {G10 : Hp → Option Nat → Option Nat → Prop} (k10 : ∀ (h : Hp) (l0 : Option Nat) (l2 : Option Nat), G10 h l0 l2 → Gd X h 10 [some (vR [2, 3] l0), none, some (vR [11, 12, 13] l2), none] []) (h : Hp) (l0 : Option Nat) (l2 : Option Nat) (s0 : Int32) (w : wp_X0_hasAll_b34 G10 K h l0 l2 s0) : Gd X h 34 [some (vR [2, 3] l0), none, some (vR [11, 12, 13] l2), none] [vI s0] := by
  unfold wp_X0_hasAll_b34 at w
  refine g_if_ne 37 39 rfl C dX0_hasAll_34 rfl (fun u124 => ?_) (fun u124 => ?_)
  · have w := w.1 u124
    refine g_goto 10 C dX0_hasAll_39 rfl ?_
    refine g_sub [some none, none, some none, none] [] rfl rfl ?_
    exact k10 _ _ _ w
  · have w := w.2 u124
    refine g_iconst 38 rfl C dX0_hasAll_37 0 rfl ?_
    exact g_zreturn C Rr dX0_hasAll_38 (Or.inl rfl) ⟨_, rfl, w⟩
def wp_X0_hasAll_b25 (G10 : Hp → Option Nat → Option Nat → Prop) (K : Int32 → Hp → Prop) (h : Hp) (l0 : Option Nat) (l2 : Option Nat) (s0 : Option Nat) : Prop :=
  ((∀ a, s0 = some a → kd h a ∈ [4, 60]) ∧ (∃ a140, l0 = some a140 ∧ (wp_J1_containsKey h l0 s0 (fun r143 h144 => Ex h h144 → (wp_X0_hasAll_b34 G10 K h144 l0 l2 r143)))))
set_option maxHeartbeats 4000000 in
theorem wk_X0_hasAll_b25 {X : Fx} {K : Int32 → Hp → Prop} (C : Cx X cX0_hasAll yX0_hasAll.cls 4 8) (Rr : Rx X (Option.some Jvm.ClassFile.FieldType.boolean) (pI K)) (N : Nm X yX0_hasAll.name) {G10 : Hp → Option Nat → Option Nat → Prop} (k10 : ∀ (h : Hp) (l0 : Option Nat) (l2 : Option Nat), G10 h l0 l2 → Gd X h 10 [some (vR [2, 3] l0), none, some (vR [11, 12, 13] l2), none] []) (h : Hp) (l0 : Option Nat) (l2 : Option Nat) (s0 : Option Nat) (w : wp_X0_hasAll_b25 G10 K h l0 l2 s0) : Gd X h 25 [some (vR [2, 3] l0), none, some (vR [11, 12, 13] l2), none] [vR [4, 5, 6, 7, 60] s0] := by
  unfold wp_X0_hasAll_b25 at w
  obtain ⟨k139, w⟩ := w
  refine g_cast [4, 60] 28 rfl C dX0_hasAll_25 q482 co_Integer_4_60 (fun a q _ => k139 a q) ?_
  refine g_astore_n 29 rfl C dX0_hasAll_28 (by decide) (rfl : _ = [some (vR [2, 3] _), none, some (vR [11, 12, 13] _), some (vR [4, 60] _)]) ?_
  refine g_aload_n 30 rfl C dX0_hasAll_29 rfl ?_
  refine g_aload_n 31 rfl C dX0_hasAll_30 rfl ?_
  obtain ⟨a140, e141, w⟩ := w
  refine g_known 1 rfl e141 (fun k142 => ?_)
  have k142 : kd _ _ ∈ [2, 3] := k142
  simp only [List.mem_cons, List.not_mem_nil, or_false] at k142
  rcases k142 with k142 | k142
  · refine g_callU (As := [vR [4, 60] _]) (T := [2, 3]) (st := []) "java/util/HashMap" 34 rfl C dX0_hasAll_31 q579 q582 dcl_4b1e20 q581 q580 q11 q584 okn_5d22b1 (by decide) (by decide) (Nat.le_of_ble_eq_true rfl) e141 (fun _ => kC rfl k142) rfl (ct_J1_containsKey C.glob w) (fun r0 h144 p145 x146 _ => ?_)
    obtain ⟨r143, rfl, w⟩ := p145
    have w := w x146
    change Gd _ _ _ _ (vI r143 :: [])
    refine g_sub [some none, none, some none, none] [none] rfl rfl ?_
    exact wk_X0_hasAll_b34 C Rr N k10 _ _ _ _ w
  · refine g_callU (As := [vR [4, 60] _]) (T := [2, 3]) (st := []) "java/util/LinkedHashMap" 34 rfl C dX0_hasAll_31 q579 q582 dcl_4b1e20 q583 q580 q11 q584 okn_5d22b1 (by decide) (by decide) (Nat.le_of_ble_eq_true rfl) e141 (fun _ => kC rfl k142) rfl (ct_J1_containsKey C.glob w) (fun r0 h144 p145 x146 _ => ?_)
    obtain ⟨r143, rfl, w⟩ := p145
    have w := w x146
    change Gd _ _ _ _ (vI r143 :: [])
    refine g_sub [some none, none, some none, none] [none] rfl rfl ?_
    exact wk_X0_hasAll_b34 C Rr N k10 _ _ _ _ w
def wp_X0_hasAll_b16 (G10 : Hp → Option Nat → Option Nat → Prop) (K : Int32 → Hp → Prop) (h : Hp) (l0 : Option Nat) (l2 : Option Nat) (s0 : Int32) : Prop :=
  ((s0 = 0 → (K 1 h)) ∧ (¬ s0 = 0 → ((∃ a75, l2 = some a75 ∧ (kd h a75 = 11 ∧ (wp_J17_next h l2 (fun r78 h79 => Ex h h79 → (wp_X0_hasAll_b25 G10 K h79 l0 l2 r78))))) ∨ (∃ a82, l2 = some a82 ∧ (kd h a82 = 12 ∧ (wp_J16_next h l2 (fun r85 h86 => Ex h h86 → (wp_X0_hasAll_b25 G10 K h86 l0 l2 r85))))) ∨ (∃ a89, l2 = some a89 ∧ (kd h a89 = 13 ∧ (wp_J19_next h l2 (fun r92 h93 => Ex h h93 → (wp_X0_hasAll_b25 G10 K h93 l0 l2 r92))))))))
set_option maxHeartbeats 4000000 in
theorem wk_X0_hasAll_b16 {X : Fx} {K : Int32 → Hp → Prop} (C : Cx X cX0_hasAll yX0_hasAll.cls 4 8) (Rr : Rx X (Option.some Jvm.ClassFile.FieldType.boolean) (pI K)) (N : Nm X yX0_hasAll.name) {G10 : Hp → Option Nat → Option Nat → Prop} (k10 : ∀ (h : Hp) (l0 : Option Nat) (l2 : Option Nat), G10 h l0 l2 → Gd X h 10 [some (vR [2, 3] l0), none, some (vR [11, 12, 13] l2), none] []) (h : Hp) (l0 : Option Nat) (l2 : Option Nat) (s0 : Int32) (w : wp_X0_hasAll_b16 G10 K h l0 l2 s0) : Gd X h 16 [some (vR [2, 3] l0), none, some (vR [11, 12, 13] l2), none] [vI s0] := by
  unfold wp_X0_hasAll_b16 at w
  refine g_if_eq 19 42 rfl C dX0_hasAll_16 rfl (fun u74 => ?_) (fun u74 => ?_)
  · have w := w.1 u74
    refine g_iconst 43 rfl C dX0_hasAll_42 1 rfl ?_
    exact g_zreturn C Rr dX0_hasAll_43 (Or.inr rfl) ⟨_, rfl, w⟩
  · have w := w.2 u74
    refine g_aload_n 20 rfl C dX0_hasAll_19 rfl ?_
    rcases w with w | w | w
    · obtain ⟨a75, e76, w⟩ := w
      obtain ⟨k77, w⟩ := w
      refine g_nar 0 [11] rfl e76 (by rw [k77]; decide) ?_
      refine g_callF (As := []) (T := [11]) (st := []) "java/util/HashMap$KeyIterator" 25 rfl C dX0_hasAll_20 q791 q809 q811 q31 q813 q793 q792 q812 q810 q778 okn_a0cf24 (by decide) (by decide) (Nat.le_of_ble_eq_true rfl) e76 (fun _ => kC rfl k77) rfl (ct_J17_next C.glob w) (fun r0 h79 p80 x81 _ => ?_)
      obtain ⟨r78, rfl, w⟩ := p80
      have w := w x81
      change Gd _ _ _ _ (vR [4, 60] r78 :: [])
      refine g_sub [some none, none, some none, none] [some [4, 5, 6, 7, 60]] rfl rfl ?_
      exact wk_X0_hasAll_b25 C Rr N k10 _ _ _ _ w
    · obtain ⟨a82, e83, w⟩ := w
      obtain ⟨k84, w⟩ := w
      refine g_nar 0 [12] rfl e83 (by rw [k84]; decide) ?_
      refine g_callF (As := []) (T := [12]) (st := []) "java/util/HashMap$EntryIterator" 25 rfl C dX0_hasAll_20 q791 q794 q796 q30 q798 q793 q792 q797 q795 q772 okn_a0cf24 (by decide) (by decide) (Nat.le_of_ble_eq_true rfl) e83 (fun _ => kC rfl k84) rfl (ct_J16_next C.glob w) (fun r0 h86 p87 x88 _ => ?_)
      obtain ⟨r85, rfl, w⟩ := p87
      have w := w x88
      change Gd _ _ _ _ (vR [5, 6, 7] r85 :: [])
      refine g_sub [some none, none, some none, none] [some [4, 5, 6, 7, 60]] rfl rfl ?_
      exact wk_X0_hasAll_b25 C Rr N k10 _ _ _ _ w
    · obtain ⟨a89, e90, w⟩ := w
      obtain ⟨k91, w⟩ := w
      refine g_nar 0 [13] rfl e90 (by rw [k91]; decide) ?_
      refine g_callF (As := []) (T := [13]) (st := []) "java/util/LinkedHashMap$LinkedEntryIterator" 25 rfl C dX0_hasAll_20 q791 q817 q819 q33 q821 q793 q792 q820 q818 q781 okn_a0cf24 (by decide) (by decide) (Nat.le_of_ble_eq_true rfl) e90 (fun _ => kC rfl k91) rfl (ct_J19_next C.glob w) (fun r0 h93 p94 x95 _ => ?_)
      obtain ⟨r92, rfl, w⟩ := p94
      have w := w x95
      change Gd _ _ _ _ (vR [6, 7] r92 :: [])
      refine g_sub [some none, none, some none, none] [some [4, 5, 6, 7, 60]] rfl rfl ?_
      exact wk_X0_hasAll_b25 C Rr N k10 _ _ _ _ w
def wp_X0_hasAll_b10 (K : Int32 → Hp → Prop) : Nat → Hp → Option Nat → Option Nat → Prop
  | 0 => fun _ _ _ => False
  | m9 + 1 => fun h l0 l2 =>
    ((∃ a125, l2 = some a125 ∧ (kd h a125 ∈ [11, 12] ∧ (wp_J15_hasNext h l2 (fun r128 h129 => Ex h h129 → (wp_X0_hasAll_b16 (wp_X0_hasAll_b10 K m9) K h129 l0 l2 r128))))) ∨ (∃ a132, l2 = some a132 ∧ (kd h a132 = 13 ∧ (wp_J18_hasNext h l2 (fun r135 h136 => Ex h h136 → (wp_X0_hasAll_b16 (wp_X0_hasAll_b10 K m9) K h136 l0 l2 r135))))))
set_option maxHeartbeats 4000000 in
theorem wk_X0_hasAll_b10 {X : Fx} {K : Int32 → Hp → Prop} (C : Cx X cX0_hasAll yX0_hasAll.cls 4 8) (Rr : Rx X (Option.some Jvm.ClassFile.FieldType.boolean) (pI K)) (N : Nm X yX0_hasAll.name) : ∀ (n : Nat) (h : Hp) (l0 : Option Nat) (l2 : Option Nat), wp_X0_hasAll_b10 K n h l0 l2 → Gd X h 10 [some (vR [2, 3] l0), none, some (vR [11, 12, 13] l2), none] [] := by
  intro n
  induction n with
  | zero => intro h l0 l2 w; exact w.elim
  | succ n ih =>
    intro h l0 l2 w
    unfold wp_X0_hasAll_b10 at w
    refine g_aload_n 11 rfl C dX0_hasAll_10 rfl ?_
    rcases w with w | w
    · obtain ⟨a125, e126, w⟩ := w
      obtain ⟨k127, w⟩ := w
      have k127 : kd _ _ ∈ [11, 12] := k127
      simp only [List.mem_cons, List.not_mem_nil, or_false] at k127
      rcases k127 with k127 | k127
      · refine g_nar 0 [11, 12] rfl e126 (by rw [k127]; decide) ?_
        refine g_callF (As := []) (T := [11, 12]) (st := []) "java/util/HashMap$KeyIterator" 16 rfl C dX0_hasAll_11 q769 q779 q775 q29 q777 q771 q770 q776 q780 q778 okn_1bd07e (by decide) (by decide) (Nat.le_of_ble_eq_true rfl) e126 (fun _ => kC rfl k127) rfl (ct_J15_hasNext C.glob w) (fun r0 h129 p130 x131 _ => ?_)
        obtain ⟨r128, rfl, w⟩ := p130
        have w := w x131
        change Gd _ _ _ _ (vI r128 :: [])
        refine g_sub [some none, none, some none, none] [none] rfl rfl ?_
        exact wk_X0_hasAll_b16 C Rr N ih _ _ _ _ w
      · refine g_nar 0 [11, 12] rfl e126 (by rw [k127]; decide) ?_
        refine g_callF (As := []) (T := [11, 12]) (st := []) "java/util/HashMap$EntryIterator" 16 rfl C dX0_hasAll_11 q769 q773 q775 q29 q777 q771 q770 q776 q774 q772 okn_1bd07e (by decide) (by decide) (Nat.le_of_ble_eq_true rfl) e126 (fun _ => kC rfl k127) rfl (ct_J15_hasNext C.glob w) (fun r0 h129 p130 x131 _ => ?_)
        obtain ⟨r128, rfl, w⟩ := p130
        have w := w x131
        change Gd _ _ _ _ (vI r128 :: [])
        refine g_sub [some none, none, some none, none] [none] rfl rfl ?_
        exact wk_X0_hasAll_b16 C Rr N ih _ _ _ _ w
    · obtain ⟨a132, e133, w⟩ := w
      obtain ⟨k134, w⟩ := w
      refine g_nar 0 [13] rfl e133 (by rw [k134]; decide) ?_
      refine g_callF (As := []) (T := [13]) (st := []) "java/util/LinkedHashMap$LinkedEntryIterator" 16 rfl C dX0_hasAll_11 q769 q782 q784 q32 q786 q771 q770 q785 q783 q781 okn_1bd07e (by decide) (by decide) (Nat.le_of_ble_eq_true rfl) e133 (fun _ => kC rfl k134) rfl (ct_J18_hasNext C.glob w) (fun r0 h136 p137 x138 _ => ?_)
      obtain ⟨r135, rfl, w⟩ := p137
      have w := w x138
      change Gd _ _ _ _ (vI r135 :: [])
      refine g_sub [some none, none, some none, none] [none] rfl rfl ?_
      exact wk_X0_hasAll_b16 C Rr N ih _ _ _ _ w
def wp_X0_hasAll_b9 (K : Int32 → Hp → Prop) (h : Hp) (l0 : Option Nat) (s0 : Option Nat) : Prop :=
  (∃ n, wp_X0_hasAll_b10 K n h l0 s0)
set_option maxHeartbeats 4000000 in
theorem wk_X0_hasAll_b9 {X : Fx} {K : Int32 → Hp → Prop} (C : Cx X cX0_hasAll yX0_hasAll.cls 4 8) (Rr : Rx X (Option.some Jvm.ClassFile.FieldType.boolean) (pI K)) (N : Nm X yX0_hasAll.name) (h : Hp) (l0 : Option Nat) (s0 : Option Nat) (w : wp_X0_hasAll_b9 K h l0 s0) : Gd X h 9 [some (vR [2, 3] l0), none, none, none] [vR [11, 12, 13] s0] := by
  unfold wp_X0_hasAll_b9 at w
  refine g_astore_n 10 rfl C dX0_hasAll_9 (by decide) (rfl : _ = [some (vR [2, 3] _), none, some (vR [11, 12, 13] _), none]) ?_
  refine g_sub [some none, none, some none, none] [] rfl rfl ?_
  obtain ⟨n9, w⟩ := w
  exact wk_X0_hasAll_b10 C Rr N n9 _ _ _ w
def wp_X0_hasAll (h : Hp) (x0 : Option Nat) (x1 : Option Nat) (K : Int32 → Hp → Prop) : Prop :=
  (∃ a96, x1 = some a96 ∧ (kd h a96 = 2 ∧ (wp_J1_keySet h x1 (fun r99 h100 => Ex h h100 → ((∃ a103, r99 = some a103 ∧ (kd h100 a103 = 8 ∧ (wp_J13_iterator h100 r99 (fun r106 h107 => Ex h100 h107 → (wp_X0_hasAll_b9 K h107 x0 r106))))) ∨ (∃ a110, r99 = some a110 ∧ (kd h100 a110 = 9 ∧ (wp_J22_iterator h100 r99 (fun r113 h114 => Ex h100 h114 → (wp_X0_hasAll_b9 K h114 x0 r113))))) ∨ (∃ a117, r99 = some a117 ∧ (kd h100 a117 = 10 ∧ (wp_J23_iterator h100 r99 (fun r120 h121 => Ex h100 h121 → (wp_X0_hasAll_b9 K h121 x0 r120))))))))))
set_option maxHeartbeats 4000000 in
theorem wk_X0_hasAll {X : Fx} {K : Int32 → Hp → Prop} (C : Cx X cX0_hasAll yX0_hasAll.cls 4 8) (Rr : Rx X (Option.some Jvm.ClassFile.FieldType.boolean) (pI K)) (N : Nm X yX0_hasAll.name) (h : Hp) (x0 : Option Nat) (x1 : Option Nat) (w : wp_X0_hasAll h x0 x1 K) : Gd X h 0 [some (vR [2, 3] x0), some (vR [2, 3] x1), none, none] [] := by
  unfold wp_X0_hasAll at w
  refine g_aload_n 1 rfl C dX0_hasAll_0 rfl ?_
  obtain ⟨a96, e97, w⟩ := w
  obtain ⟨k98, w⟩ := w
  refine g_callU (As := []) (T := [2, 3]) (st := []) "java/util/HashMap" 4 rfl C dX0_hasAll_1 q624 q627 dcl_7de7e9 q626 q625 q11 q655 okn_84dc74 (by decide) (by decide) (Nat.le_of_ble_eq_true rfl) e97 (fun _ => kC rfl k98) rfl (ct_J1_keySet C.glob w) (fun r0 h100 p101 x102 _ => ?_)
  obtain ⟨r99, rfl, w⟩ := p101
  have w := w x102
  change Gd _ _ _ _ (vR [8, 9, 10] r99 :: [])
  rcases w with w | w | w
  · obtain ⟨a103, e104, w⟩ := w
    obtain ⟨k105, w⟩ := w
    refine g_nar 0 [8] rfl e104 (by rw [k105]; decide) ?_
    refine g_callF (As := []) (T := [8]) (st := []) "java/util/HashMap$KeySet" 9 rfl C dX0_hasAll_4 q667 q702 q704 q27 q706 q669 q668 q705 q703 q701 okn_e2e68a (by decide) (by decide) (Nat.le_of_ble_eq_true rfl) e104 (fun _ => kC rfl k105) rfl (ct_J13_iterator C.glob w) (fun r0 h107 p108 x109 _ => ?_)
    obtain ⟨r106, rfl, w⟩ := p108
    have w := w x109
    change Gd _ _ _ _ (vR [11, 12, 13] r106 :: [])
    refine g_sub [some none, none, none, none] [none] rfl rfl ?_
    exact wk_X0_hasAll_b9 C Rr N _ _ _ w
  · obtain ⟨a110, e111, w⟩ := w
    obtain ⟨k112, w⟩ := w
    refine g_nar 0 [9] rfl e111 (by rw [k112]; decide) ?_
    refine g_callF (As := []) (T := [9]) (st := []) "java/util/HashMap$EntrySet" 9 rfl C dX0_hasAll_4 q667 q671 q673 q37 q675 q669 q668 q674 q672 q670 okn_e2e68a (by decide) (by decide) (Nat.le_of_ble_eq_true rfl) e111 (fun _ => kC rfl k112) rfl (ct_J22_iterator C.glob w) (fun r0 h114 p115 x116 _ => ?_)
    obtain ⟨r113, rfl, w⟩ := p115
    have w := w x116
    change Gd _ _ _ _ (vR [11, 12, 13] r113 :: [])
    refine g_sub [some none, none, none, none] [none] rfl rfl ?_
    exact wk_X0_hasAll_b9 C Rr N _ _ _ w
  · obtain ⟨a117, e118, w⟩ := w
    obtain ⟨k119, w⟩ := w
    refine g_nar 0 [10] rfl e118 (by rw [k119]; decide) ?_
    refine g_callF (As := []) (T := [10]) (st := []) "java/util/LinkedHashMap$LinkedEntrySet" 9 rfl C dX0_hasAll_4 q667 q720 q722 q38 q724 q669 q668 q723 q721 q719 okn_e2e68a (by decide) (by decide) (Nat.le_of_ble_eq_true rfl) e118 (fun _ => kC rfl k119) rfl (ct_J23_iterator C.glob w) (fun r0 h121 p122 x123 _ => ?_)
    obtain ⟨r120, rfl, w⟩ := p122
    have w := w x123
    change Gd _ _ _ _ (vR [11, 12, 13] r120 :: [])
    refine g_sub [some none, none, none, none] [none] rfl rfl ?_
    exact wk_X0_hasAll_b9 C Rr N _ _ _ w
theorem ct_X0_hasAll {E : Gx} (GE : Glob E) {h : Hp} {x0 : Option Nat} {x1 : Option Nat} {K : Int32 → Hp → Prop} (w : wp_X0_hasAll h x0 x1 K) : Ct E yX0_hasAll cX0_hasAll 4 (Option.some Jvm.ClassFile.FieldType.boolean) 8 [vR [2, 3] x0, vR [2, 3] x1] h (pI K) :=
  Ct.of GE (by decide +kernel) (by simp [lvA, t2]) rfl (fun X hX C Rr N => wk_X0_hasAll C Rr N h x0 x1 w)
