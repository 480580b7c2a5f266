/-! WALKS (printed by emit.py): X2_rankOf X2_find X2_grow X2_insert X1_put X1_add X1_get X1_give X2_delete X1_remove X1_take X1_has X1_size X2_clear X1_clear X1_pour X1_entry X1_sum -/
set_option maxRecDepth 100000
def wp_X2_rankOf_b46 (G7 : Hp → Option Nat → Int32 → Int32 → Int32 → Prop) (K : Int32 → Hp → Prop) (h : Hp) (l0 : Option Nat) (l1 : Int32) (l2 : Int32) (l3 : Int32) : Prop :=
  (G7 h l0 l1 l2 l3)
set_option maxHeartbeats 4000000 in
theorem wk_X2_rankOf_b46 {X : Fx} {K : Int32 → Hp → Prop} (C : Cx X cX2_rankOf yX2_rankOf.cls 5 2) (Rr : Rx X (Option.some Jvm.ClassFile.FieldType.int) (pI K)) (N : Nm X yX2_rankOf.name) {G7 : Hp → Option Nat → Int32 → Int32 → Int32 → Prop} (k7 : ∀ (h : Hp) (l0 : Option Nat) (l1 : Int32) (l2 : Int32) (l3 : Int32), G7 h l0 l1 l2 l3 → Gd X h 7 [some (vR [15] l0), some (vI l1), some (vI l2), some (vI l3), none] []) (h : Hp) (l0 : Option Nat) (l1 : Int32) (l2 : Int32) (l3 : Int32) (w : wp_X2_rankOf_b46 G7 K h l0 l1 l2 l3) : Gd X h 46 [some (vR [15] l0), some (vI l1), some (vI l2), some (vI l3), none] [] := by
  unfold wp_X2_rankOf_b46 at w
  refine g_goto 7 C dX2_rankOf_46 rfl ?_
  refine g_sub [some none, some none, some none, some none, none] [] rfl rfl ?_
  exact k7 _ _ _ _ _ w
def wp_X2_rankOf_b7 (K : Int32 → Hp → Prop) : Nat → Hp → Option Nat → Int32 → Int32 → Int32 → Prop
  | 0 => fun _ _ _ _ _ => False
  | m9 + 1 => fun h l0 l1 l2 l3 =>
    ((l3 ≤ l2 → (K l2 h)) ∧ (¬ l3 ≤ l2 → (¬ (2 : Int32) = 0 ∧ (∃ a24, l0 = some a24 ∧ (∃ a26, (rf h 42 a24) = some a26 ∧ (∃ j28, ((l2 + l3) / 2) = nI j28 ∧ j28 < ln h a26 ∧ (∃ a31, (rf h 43 a24) = some a31 ∧ (∃ j33, (it h (100 + j28) a26) = nI j33 ∧ j33 < ln h a31 ∧ ((l1 ≤ (it h (100 + j33) a31) → (wp_X2_rankOf_b46 (wp_X2_rankOf_b7 K m9) K h l0 l1 l2 ((l2 + l3) / 2))) ∧ (¬ l1 ≤ (it h (100 + j33) a31) → (wp_X2_rankOf_b46 (wp_X2_rankOf_b7 K m9) K h l0 l1 (((l2 + l3) / 2) + 1) l3)))))))))))
set_option maxHeartbeats 4000000 in
theorem wk_X2_rankOf_b7 {X : Fx} {K : Int32 → Hp → Prop} (C : Cx X cX2_rankOf yX2_rankOf.cls 5 2) (Rr : Rx X (Option.some Jvm.ClassFile.FieldType.int) (pI K)) (N : Nm X yX2_rankOf.name) : ∀ (n : Nat) (h : Hp) (l0 : Option Nat) (l1 : Int32) (l2 : Int32) (l3 : Int32), wp_X2_rankOf_b7 K n h l0 l1 l2 l3 → Gd X h 7 [some (vR [15] l0), some (vI l1), some (vI l2), some (vI l3), none] [] := by
  intro n
  induction n with
  | zero => intro h l0 l1 l2 l3 w; exact w.elim
  | succ n ih =>
    intro h l0 l1 l2 l3 w
    unfold wp_X2_rankOf_b7 at w
    refine g_iload_n 8 rfl C dX2_rankOf_7 rfl ?_
    refine g_iload_n 9 rfl C dX2_rankOf_8 rfl ?_
    refine g_icmp_ge 12 49 rfl C dX2_rankOf_9 rfl (fun u22 => ?_) (fun u22 => ?_)
    · have w := w.1 u22
      refine g_iload_n 50 rfl C dX2_rankOf_49 rfl ?_
      exact g_ireturn C Rr dX2_rankOf_50 ⟨_, rfl, w⟩
    · have w := w.2 u22
      refine g_iload_n 13 rfl C dX2_rankOf_12 rfl ?_
      refine g_iload_n 14 rfl C dX2_rankOf_13 rfl ?_
      refine g_iadd 15 rfl C dX2_rankOf_14 ?_
      refine g_iconst 16 rfl C dX2_rankOf_15 2 rfl ?_
      obtain ⟨e23, w⟩ := w
      refine g_idiv 17 rfl C dX2_rankOf_16 e23 ?_
      refine g_istore 19 rfl C dX2_rankOf_17 (by decide) (rfl : _ = [some (vR [15] _), some (vI _), some (vI _), some (vI _), some (vI _)]) ?_
      refine g_aload_n 20 rfl C dX2_rankOf_19 rfl ?_
      obtain ⟨a24, e25, w⟩ := w
      refine g_getR 23 rfl C dX2_rankOf_20 fl_HashHallModel_Pairs_13 rfl e25 rfl ?_
      refine g_aload_n 24 rfl C dX2_rankOf_23 rfl ?_
      refine g_getR 27 rfl C dX2_rankOf_24 fl_HashHallModel_Pairs_7 rfl e25 rfl ?_
      refine g_iload 29 rfl C dX2_rankOf_27 rfl ?_
      obtain ⟨a26, e27, w⟩ := w
      obtain ⟨j28, e29, e30, w⟩ := w
      refine g_iaload 30 rfl C dX2_rankOf_29 e27 e29 e30 ?_
      obtain ⟨a31, e32, w⟩ := w
      obtain ⟨j33, e34, e35, w⟩ := w
      refine g_iaload 31 rfl C dX2_rankOf_30 e32 e34 e35 ?_
      refine g_iload_n 32 rfl C dX2_rankOf_31 rfl ?_
      refine g_icmp_ge 35 43 rfl C dX2_rankOf_32 rfl (fun u36 => ?_) (fun u36 => ?_)
      · have w := w.1 u36
        refine g_iload 45 rfl C dX2_rankOf_43 rfl ?_
        refine g_istore_n 46 rfl C dX2_rankOf_45 (by decide) (rfl : _ = [some (vR [15] _), some (vI _), some (vI _), some (vI _), some (vI _)]) ?_
        refine g_sub [some none, some none, some none, some none, none] [] rfl rfl ?_
        exact wk_X2_rankOf_b46 C Rr N ih _ _ _ _ _ w
      · have w := w.2 u36
        refine g_iload 37 rfl C dX2_rankOf_35 rfl ?_
        refine g_iconst 38 rfl C dX2_rankOf_37 1 rfl ?_
        refine g_iadd 39 rfl C dX2_rankOf_38 ?_
        refine g_istore_n 40 rfl C dX2_rankOf_39 (by decide) (rfl : _ = [some (vR [15] _), some (vI _), some (vI _), some (vI _), some (vI _)]) ?_
        refine g_goto 46 C dX2_rankOf_40 rfl ?_
        refine g_sub [some none, some none, some none, some none, none] [] rfl rfl ?_
        exact wk_X2_rankOf_b46 C Rr N ih _ _ _ _ _ w
def wp_X2_rankOf (h : Hp) (x0 : Option Nat) (x1 : Int32) (K : Int32 → Hp → Prop) : Prop :=
  (∃ a20, x0 = some a20 ∧ (∃ n, wp_X2_rankOf_b7 K n h x0 x1 0 (it h 47 a20)))
set_option maxHeartbeats 4000000 in
theorem wk_X2_rankOf {X : Fx} {K : Int32 → Hp → Prop} (C : Cx X cX2_rankOf yX2_rankOf.cls 5 2) (Rr : Rx X (Option.some Jvm.ClassFile.FieldType.int) (pI K)) (N : Nm X yX2_rankOf.name) (h : Hp) (x0 : Option Nat) (x1 : Int32) (w : wp_X2_rankOf h x0 x1 K) : Gd X h 0 [some (vR [15] x0), some (vI x1), none, none, none] [] := by
  unfold wp_X2_rankOf at w
  refine g_iconst 1 rfl C dX2_rankOf_0 0 rfl ?_
  refine g_istore_n 2 rfl C dX2_rankOf_1 (by decide) (rfl : _ = [some (vR [15] _), some (vI _), some (vI _), none, none]) ?_
  refine g_aload_n 3 rfl C dX2_rankOf_2 rfl ?_
  obtain ⟨a20, e21, w⟩ := w
  refine g_getI 6 rfl C dX2_rankOf_3 fl_HashHallModel_Pairs_35 rfl e21 rfl ?_
  refine g_istore_n 7 rfl C dX2_rankOf_6 (by decide) (rfl : _ = [some (vR [15] _), some (vI _), some (vI _), some (vI _), none]) ?_
  refine g_sub [some none, some none, some none, some none, none] [] rfl rfl ?_
  obtain ⟨n9, w⟩ := w
  exact wk_X2_rankOf_b7 C Rr N n9 _ _ _ _ _ w
theorem ct_X2_rankOf {E : Gx} (GE : Glob E) {h : Hp} {x0 : Option Nat} {x1 : Int32} {K : Int32 → Hp → Prop} (w : wp_X2_rankOf h x0 x1 K) : Ct E yX2_rankOf cX2_rankOf 5 (Option.some Jvm.ClassFile.FieldType.int) 2 [vR [15] x0, vI x1] h (pI K) :=
  Ct.of GE (by decide +kernel) (by simp [lvA, t2]) rfl (fun X hX C Rr N => wk_X2_rankOf C Rr N h x0 x1 w)
def wp_X2_find_b39 (K : Int32 → Hp → Prop) (h : Hp) (s0 : Int32) : Prop :=
  (K s0 h)
set_option maxHeartbeats 4000000 in
theorem wk_X2_find_b39 {X : Fx} {K : Int32 → Hp → Prop} (C : Cx X cX2_find yX2_find.cls 3 3) (Rr : Rx X (Option.some Jvm.ClassFile.FieldType.int) (pI K)) (N : Nm X yX2_find.name) (h : Hp) (s0 : Int32) (w : wp_X2_find_b39 K h s0) : Gd X h 39 [none, none, none] [vI s0] := by
  unfold wp_X2_find_b39 at w
  exact g_ireturn C Rr dX2_find_39 ⟨_, rfl, w⟩
def wp_X2_find_b38 (K : Int32 → Hp → Prop) (h : Hp)  : Prop :=
  (wp_X2_find_b39 K h (-1))
set_option maxHeartbeats 4000000 in
theorem wk_X2_find_b38 {X : Fx} {K : Int32 → Hp → Prop} (C : Cx X cX2_find yX2_find.cls 3 3) (Rr : Rx X (Option.some Jvm.ClassFile.FieldType.int) (pI K)) (N : Nm X yX2_find.name) (h : Hp)  (w : wp_X2_find_b38 K h ) : Gd X h 38 [none, none, none] [] := by
  unfold wp_X2_find_b38 at w
  refine g_iconst 39 rfl C dX2_find_38 (-1) rfl ?_
  refine g_sub [none, none, none] [none] rfl rfl ?_
  exact wk_X2_find_b39 C Rr N _ _ w
def wp_X2_find (h : Hp) (x0 : Option Nat) (x1 : Int32) (K : Int32 → Hp → Prop) : Prop :=
  (∃ a33, x0 = some a33 ∧ (wp_X2_rankOf h x0 x1 (fun r36 h37 => Ex h h37 → (((it h37 47 a33) ≤ r36 → (wp_X2_find_b38 K h37)) ∧ (¬ (it h37 47 a33) ≤ r36 → (∃ a41, (rf h37 42 a33) = some a41 ∧ (∃ j43, r36 = nI j43 ∧ j43 < ln h37 a41 ∧ (∃ a46, (rf h37 43 a33) = some a46 ∧ (∃ j48, (it h37 (100 + j43) a41) = nI j48 ∧ j48 < ln h37 a46 ∧ ((¬ (it h37 (100 + j48) a46) = x1 → (wp_X2_find_b38 K h37)) ∧ ((it h37 (100 + j48) a46) = x1 → (∃ j52, r36 = nI j52 ∧ j52 < ln h37 a41 ∧ (wp_X2_find_b39 K h37 (it h37 (100 + j52) a41))))))))))))))
set_option maxHeartbeats 4000000 in
theorem wk_X2_find {X : Fx} {K : Int32 → Hp → Prop} (C : Cx X cX2_find yX2_find.cls 3 3) (Rr : Rx X (Option.some Jvm.ClassFile.FieldType.int) (pI K)) (N : Nm X yX2_find.name) (h : Hp) (x0 : Option Nat) (x1 : Int32) (w : wp_X2_find h x0 x1 K) : Gd X h 0 [some (vR [15] x0), some (vI x1), none] [] := by
  unfold wp_X2_find at w
  refine g_aload_n 1 rfl C dX2_find_0 rfl ?_
  refine g_iload_n 2 rfl C dX2_find_1 rfl ?_
  obtain ⟨a33, e34, w⟩ := w
  refine g_callV (As := [vI _]) (T := [15]) (st := []) "HashHallModel$Pairs" 5 rfl C dX2_find_2 q1165 q1167 qs3 q17 q1168 rfl okn_8469bd (by decide) (by decide) (Nat.le_of_ble_eq_true rfl) e34 (fun q => tC rfl q) rfl (ct_X2_rankOf C.glob w) (fun r0 h37 p38 x39 _ => ?_)
  obtain ⟨r36, rfl, w⟩ := p38
  have w := w x39
  change Gd _ _ _ _ (vI r36 :: [])
  refine g_istore_n 6 rfl C dX2_find_5 (by decide) (rfl : _ = [some (vR [15] _), some (vI _), some (vI _)]) ?_
  refine g_iload_n 7 rfl C dX2_find_6 rfl ?_
  refine g_aload_n 8 rfl C dX2_find_7 rfl ?_
  refine g_getI 11 rfl C dX2_find_8 fl_HashHallModel_Pairs_35 rfl e34 rfl ?_
  refine g_icmp_ge 14 38 rfl C dX2_find_11 rfl (fun u40 => ?_) (fun u40 => ?_)
  · have w := w.1 u40
    refine g_sub [none, none, none] [] rfl rfl ?_
    exact wk_X2_find_b38 C Rr N _ w
  · have w := w.2 u40
    refine g_aload_n 15 rfl C dX2_find_14 rfl ?_
    refine g_getR 18 rfl C dX2_find_15 fl_HashHallModel_Pairs_13 rfl e34 rfl ?_
    refine g_aload_n 19 rfl C dX2_find_18 rfl ?_
    refine g_getR 22 rfl C dX2_find_19 fl_HashHallModel_Pairs_7 rfl e34 rfl ?_
    refine g_iload_n 23 rfl C dX2_find_22 rfl ?_
    obtain ⟨a41, e42, w⟩ := w
    obtain ⟨j43, e44, e45, w⟩ := w
    refine g_iaload 24 rfl C dX2_find_23 e42 e44 e45 ?_
    obtain ⟨a46, e47, w⟩ := w
    obtain ⟨j48, e49, e50, w⟩ := w
    refine g_iaload 25 rfl C dX2_find_24 e47 e49 e50 ?_
    refine g_iload_n 26 rfl C dX2_find_25 rfl ?_
    refine g_icmp_ne 29 38 rfl C dX2_find_26 rfl (fun u51 => ?_) (fun u51 => ?_)
    · have w := w.1 u51
      refine g_sub [none, none, none] [] rfl rfl ?_
      exact wk_X2_find_b38 C Rr N _ w
    · have w := w.2 u51
      refine g_aload_n 30 rfl C dX2_find_29 rfl ?_
      refine g_getR 33 rfl C dX2_find_30 fl_HashHallModel_Pairs_7 rfl e34 rfl ?_
      refine g_iload_n 34 rfl C dX2_find_33 rfl ?_
      obtain ⟨j52, e53, e54, w⟩ := w
      refine g_iaload 35 rfl C dX2_find_34 e42 e53 e54 ?_
      refine g_goto 39 C dX2_find_35 rfl ?_
      refine g_sub [none, none, none] [none] rfl rfl ?_
      exact wk_X2_find_b39 C Rr N _ _ w
theorem ct_X2_find {E : Gx} (GE : Glob E) {h : Hp} {x0 : Option Nat} {x1 : Int32} {K : Int32 → Hp → Prop} (w : wp_X2_find h x0 x1 K) : Ct E yX2_find cX2_find 3 (Option.some Jvm.ClassFile.FieldType.int) 3 [vR [15] x0, vI x1] h (pI K) :=
  Ct.of GE (by decide +kernel) (by simp [lvA, t2]) rfl (fun X hX C Rr N => wk_X2_find C Rr N h x0 x1 w)
def wp_X2_grow (h : Hp) (x0 : Option Nat) (K : Hp → Prop) : Prop :=
  (∃ a53, x0 = some a53 ∧ (wp_J9_copyOf h (rf h 42 a53) (2 * (it h 49 a53)) (fun r56 h57 => Ex h h57 → (∀ h60, h60 = wR h57 42 a53 r56 → (wp_J9_copyOf h60 (rf h60 43 a53) (2 * (it h 49 a53)) (fun r62 h63 => Ex h60 h63 → (∀ h66, h66 = wR h63 43 a53 r62 → (wp_J9_copyOf h66 (rf h66 44 a53) (2 * (it h 49 a53)) (fun r68 h69 => Ex h66 h69 → (∀ h72, h72 = wR h69 44 a53 r68 → (wp_J9_copyOf h72 (rf h72 45 a53) (2 * (it h 49 a53)) (fun r74 h75 => Ex h72 h75 → (∀ h78, h78 = wR h75 45 a53 r74 → (wp_J9_copyOf h78 (rf h78 46 a53) (2 * (it h 49 a53)) (fun r80 h81 => Ex h78 h81 → (∀ h84, h84 = wR h81 46 a53 r80 → (K h84)))))))))))))))))
set_option maxHeartbeats 4000000 in
theorem wk_X2_grow {X : Fx} {K : Hp → Prop} (C : Cx X cX2_grow yX2_grow.cls 2 4) (Rr : Rx X (Option.none : Option Jvm.ClassFile.FieldType) (pV K)) (N : Nm X yX2_grow.name) (h : Hp) (x0 : Option Nat) (w : wp_X2_grow h x0 K) : Gd X h 0 [some (vR [15] x0), none] [] := by
  unfold wp_X2_grow at w
  refine g_iconst 1 rfl C dX2_grow_0 2 rfl ?_
  refine g_aload_n 2 rfl C dX2_grow_1 rfl ?_
  obtain ⟨a53, e54, w⟩ := w
  refine g_getI 5 rfl C dX2_grow_2 fl_HashHallModel_Pairs_42 rfl e54 rfl ?_
  refine g_imul 6 rfl C dX2_grow_5 ?_
  refine g_istore_n 7 rfl C dX2_grow_6 (by decide) (rfl : _ = [some (vR [15] _), some (vI _)]) ?_
  refine g_aload_n 8 rfl C dX2_grow_7 rfl ?_
  refine g_aload_n 9 rfl C dX2_grow_8 rfl ?_
  refine g_getR 12 rfl C dX2_grow_9 fl_HashHallModel_Pairs_7 rfl e54 rfl ?_
  refine g_iload_n 13 rfl C dX2_grow_12 rfl ?_
  refine g_callS (As := [vR [50] _, vI _]) (st := [vR [15] _]) 16 rfl C dX2_grow_13 q1177 q1178 q22 q1179 okn_46067a (by decide) (by decide) (Nat.le_of_ble_eq_true rfl) rfl (ct_J9_copyOf C.glob w) (fun r0 h57 p58 x59 _ => ?_)
  obtain ⟨r56, rfl, w⟩ := p58
  have w := w x59
  change Gd _ _ _ _ (vR [50] r56 :: [vR [15] _])
  refine g_putR 19 rfl C dX2_grow_16 fl_HashHallModel_Pairs_7 rfl rfl rfl e54 rfl ?_
  have w := w _ rfl
  refine g_aload_n 20 rfl C dX2_grow_19 rfl ?_
  refine g_aload_n 21 rfl C dX2_grow_20 rfl ?_
  refine g_getR 24 rfl C dX2_grow_21 fl_HashHallModel_Pairs_13 rfl e54 rfl ?_
  refine g_iload_n 25 rfl C dX2_grow_24 rfl ?_
  refine g_callS (As := [vR [50] _, vI _]) (st := [vR [15] _]) 28 rfl C dX2_grow_25 q1177 q1178 q22 q1179 okn_46067a (by decide) (by decide) (Nat.le_of_ble_eq_true rfl) rfl (ct_J9_copyOf C.glob w) (fun r0 h63 p64 x65 _ => ?_)
  obtain ⟨r62, rfl, w⟩ := p64
  have w := w x65
  change Gd _ _ _ _ (vR [50] r62 :: [vR [15] _])
  refine g_putR 31 rfl C dX2_grow_28 fl_HashHallModel_Pairs_13 rfl rfl rfl e54 rfl ?_
  have w := w _ rfl
  refine g_aload_n 32 rfl C dX2_grow_31 rfl ?_
  refine g_aload_n 33 rfl C dX2_grow_32 rfl ?_
  refine g_getR 36 rfl C dX2_grow_33 fl_HashHallModel_Pairs_16 rfl e54 rfl ?_
  refine g_iload_n 37 rfl C dX2_grow_36 rfl ?_
  refine g_callS (As := [vR [50] _, vI _]) (st := [vR [15] _]) 40 rfl C dX2_grow_37 q1177 q1178 q22 q1179 okn_46067a (by decide) (by decide) (Nat.le_of_ble_eq_true rfl) rfl (ct_J9_copyOf C.glob w) (fun r0 h69 p70 x71 _ => ?_)
  obtain ⟨r68, rfl, w⟩ := p70
  have w := w x71
  change Gd _ _ _ _ (vR [50] r68 :: [vR [15] _])
  refine g_putR 43 rfl C dX2_grow_40 fl_HashHallModel_Pairs_16 rfl rfl rfl e54 rfl ?_
  have w := w _ rfl
  refine g_aload_n 44 rfl C dX2_grow_43 rfl ?_
  refine g_aload_n 45 rfl C dX2_grow_44 rfl ?_
  refine g_getR 48 rfl C dX2_grow_45 fl_HashHallModel_Pairs_19 rfl e54 rfl ?_
  refine g_iload_n 49 rfl C dX2_grow_48 rfl ?_
  refine g_callS (As := [vR [50] _, vI _]) (st := [vR [15] _]) 52 rfl C dX2_grow_49 q1177 q1178 q22 q1179 okn_46067a (by decide) (by decide) (Nat.le_of_ble_eq_true rfl) rfl (ct_J9_copyOf C.glob w) (fun r0 h75 p76 x77 _ => ?_)
  obtain ⟨r74, rfl, w⟩ := p76
  have w := w x77
  change Gd _ _ _ _ (vR [50] r74 :: [vR [15] _])
  refine g_putR 55 rfl C dX2_grow_52 fl_HashHallModel_Pairs_19 rfl rfl rfl e54 rfl ?_
  have w := w _ rfl
  refine g_aload_n 56 rfl C dX2_grow_55 rfl ?_
  refine g_aload_n 57 rfl C dX2_grow_56 rfl ?_
  refine g_getR 60 rfl C dX2_grow_57 fl_HashHallModel_Pairs_22 rfl e54 rfl ?_
  refine g_iload_n 61 rfl C dX2_grow_60 rfl ?_
  refine g_callS (As := [vR [50] _, vI _]) (st := [vR [15] _]) 64 rfl C dX2_grow_61 q1177 q1178 q22 q1179 okn_46067a (by decide) (by decide) (Nat.le_of_ble_eq_true rfl) rfl (ct_J9_copyOf C.glob w) (fun r0 h81 p82 x83 _ => ?_)
  obtain ⟨r80, rfl, w⟩ := p82
  have w := w x83
  change Gd _ _ _ _ (vR [50] r80 :: [vR [15] _])
  refine g_putR 67 rfl C dX2_grow_64 fl_HashHallModel_Pairs_22 rfl rfl rfl e54 rfl ?_
  have w := w _ rfl
  exact g_vreturn C Rr dX2_grow_67 ⟨rfl, w⟩
theorem ct_X2_grow {E : Gx} (GE : Glob E) {h : Hp} {x0 : Option Nat} {K : Hp → Prop} (w : wp_X2_grow h x0 K) : Ct E yX2_grow cX2_grow 2 (Option.none : Option Jvm.ClassFile.FieldType) 4 [vR [15] x0] h (pV K) :=
  Ct.of GE (by decide +kernel) (by simp [lvA, t2]) rfl (fun X hX C Rr N => wk_X2_grow C Rr N h x0 w)
def wp_X2_insert_b53 (K : Hp → Prop) (h : Hp) (l0 : Option Nat) (l1 : Int32) (l2 : Int32) (l3 : Int32) : Prop :=
  (∃ a114, l0 = some a114 ∧ (∃ a116, (rf h 43 a114) = some a116 ∧ (∃ j118, l3 = nI j118 ∧ j118 < ln h a116 ∧ ∀ h121, h121 = wI h (100 + j118) a116 l1 → (∃ a122, (rf h121 44 a114) = some a122 ∧ (∃ j124, l3 = nI j124 ∧ j124 < ln h121 a122 ∧ ∀ h127, h127 = wI h121 (100 + j124) a122 l2 → (wp_X2_rankOf h127 l0 l1 (fun r129 h130 => Ex h127 h130 → (∃ a133, (rf h130 42 a114) = some a133 ∧ (∃ i135 j136 c137, r129 = nI i135 ∧ (r129 + 1) = nI j136 ∧ ((it h130 47 a114) - r129) = nI c137 ∧ i135 + c137 ≤ ln h130 a133 ∧ j136 + c137 ≤ ln h130 a133 ∧ ∀ h143, h143 = cpI h130 a133 i135 a133 j136 c137 → (∃ a144, (rf h143 42 a114) = some a144 ∧ (∃ j146, r129 = nI j146 ∧ j146 < ln h143 a144 ∧ ∀ h149, h149 = wI h143 (100 + j146) a144 l3 → (∀ h150, h150 = wI h149 47 a114 ((it h149 47 a114) + 1) → (wp_X2_link h150 l0 l3 (fun h153 => Ex h150 h153 → (K h153)))))))))))))))
set_option maxHeartbeats 4000000 in
theorem wk_X2_insert_b53 {X : Fx} {K : Hp → Prop} (C : Cx X cX2_insert yX2_insert.cls 5 5) (Rr : Rx X (Option.none : Option Jvm.ClassFile.FieldType) (pV K)) (N : Nm X yX2_insert.name) (h : Hp) (l0 : Option Nat) (l1 : Int32) (l2 : Int32) (l3 : Int32) (w : wp_X2_insert_b53 K h l0 l1 l2 l3) : Gd X h 53 [some (vR [15] l0), some (vI l1), some (vI l2), some (vI l3), none] [] := by
  unfold wp_X2_insert_b53 at w
  refine g_aload_n 54 rfl C dX2_insert_53 rfl ?_
  obtain ⟨a114, e115, w⟩ := w
  refine g_getR 57 rfl C dX2_insert_54 fl_HashHallModel_Pairs_13 rfl e115 rfl ?_
  refine g_iload_n 58 rfl C dX2_insert_57 rfl ?_
  refine g_iload_n 59 rfl C dX2_insert_58 rfl ?_
  obtain ⟨a116, e117, w⟩ := w
  obtain ⟨j118, e119, e120, w⟩ := w
  refine g_iastore 60 rfl C dX2_insert_59 e117 e119 e120 ?_
  have w := w _ rfl
  refine g_aload_n 61 rfl C dX2_insert_60 rfl ?_
  refine g_getR 64 rfl C dX2_insert_61 fl_HashHallModel_Pairs_16 rfl e115 rfl ?_
  refine g_iload_n 65 rfl C dX2_insert_64 rfl ?_
  refine g_iload_n 66 rfl C dX2_insert_65 rfl ?_
  obtain ⟨a122, e123, w⟩ := w
  obtain ⟨j124, e125, e126, w⟩ := w
  refine g_iastore 67 rfl C dX2_insert_66 e123 e125 e126 ?_
  have w := w _ rfl
  refine g_aload_n 68 rfl C dX2_insert_67 rfl ?_
  refine g_iload_n 69 rfl C dX2_insert_68 rfl ?_
  refine g_callV (As := [vI _]) (T := [15]) (st := []) "HashHallModel$Pairs" 72 rfl C dX2_insert_69 q1165 q1167 qs3 q17 q1168 rfl okn_8469bd (by decide) (by decide) (Nat.le_of_ble_eq_true rfl) e115 (fun q => tC rfl q) rfl (ct_X2_rankOf C.glob w) (fun r0 h130 p131 x132 _ => ?_)
  obtain ⟨r129, rfl, w⟩ := p131
  have w := w x132
  change Gd _ _ _ _ (vI r129 :: [])
  refine g_istore 74 rfl C dX2_insert_72 (by decide) (rfl : _ = [some (vR [15] _), some (vI _), some (vI _), some (vI _), some (vI _)]) ?_
  refine g_aload_n 75 rfl C dX2_insert_74 rfl ?_
  refine g_getR 78 rfl C dX2_insert_75 fl_HashHallModel_Pairs_7 rfl e115 rfl ?_
  refine g_iload 80 rfl C dX2_insert_78 rfl ?_
  refine g_aload_n 81 rfl C dX2_insert_80 rfl ?_
  refine g_getR 84 rfl C dX2_insert_81 fl_HashHallModel_Pairs_7 rfl e115 rfl ?_
  refine g_iload 86 rfl C dX2_insert_84 rfl ?_
  refine g_iconst 87 rfl C dX2_insert_86 1 rfl ?_
  refine g_iadd 88 rfl C dX2_insert_87 ?_
  refine g_aload_n 89 rfl C dX2_insert_88 rfl ?_
  refine g_getI 92 rfl C dX2_insert_89 fl_HashHallModel_Pairs_35 rfl e115 rfl ?_
  refine g_iload 94 rfl C dX2_insert_92 rfl ?_
  refine g_isub 95 rfl C dX2_insert_94 ?_
  obtain ⟨a133, e134, w⟩ := w
  obtain ⟨i135, j136, c137, e138, e139, e140, e141, e142, w⟩ := w
  refine g_acopy 98 rfl C dX2_insert_95 q1193 (by decide) (Nat.le_of_ble_eq_true rfl) e134 e134 e138 e139 e140 e141 e142 ?_
  have w := w _ rfl
  refine g_aload_n 99 rfl C dX2_insert_98 rfl ?_
  refine g_getR 102 rfl C dX2_insert_99 fl_HashHallModel_Pairs_7 rfl e115 rfl ?_
  refine g_iload 104 rfl C dX2_insert_102 rfl ?_
  refine g_iload_n 105 rfl C dX2_insert_104 rfl ?_
  obtain ⟨a144, e145, w⟩ := w
  obtain ⟨j146, e147, e148, w⟩ := w
  refine g_iastore 106 rfl C dX2_insert_105 e145 e147 e148 ?_
  have w := w _ rfl
  refine g_aload_n 107 rfl C dX2_insert_106 rfl ?_
  refine g_dup 108 rfl C dX2_insert_107 rfl ?_
  refine g_getI 111 rfl C dX2_insert_108 fl_HashHallModel_Pairs_35 rfl e115 rfl ?_
  refine g_iconst 112 rfl C dX2_insert_111 1 rfl ?_
  refine g_iadd 113 rfl C dX2_insert_112 ?_
  refine g_putI 116 rfl C dX2_insert_113 fl_HashHallModel_Pairs_35 rfl rfl e115 rfl ?_
  have w := w _ rfl
  refine g_aload_n 117 rfl C dX2_insert_116 rfl ?_
  refine g_iload_n 118 rfl C dX2_insert_117 rfl ?_
  refine g_callV (As := [vI _]) (T := [15]) (st := []) "HashHallModel$Pairs" 121 rfl C dX2_insert_118 q1194 q1196 qs5 q17 q1197 rfl okn_b4b0ad (by decide) (by decide) (Nat.le_of_ble_eq_true rfl) e115 (fun q => tC rfl q) rfl (ct_X2_link C.glob w) (fun r0 h153 p154 x155 _ => ?_)
  obtain ⟨rfl, w⟩ := p154
  have w := w x155
  change Gd _ _ _ _ []
  exact g_vreturn C Rr dX2_insert_121 ⟨rfl, w⟩
def wp_X2_insert_b38 (K : Hp → Prop) (h : Hp) (l0 : Option Nat) (l1 : Int32) (l2 : Int32) : Prop :=
  (∃ a156, l0 = some a156 ∧ (∀ h158, h158 = wI h 49 a156 ((it h 49 a156) + 1) → (wp_X2_insert_b53 K h158 l0 l1 l2 (it h 49 a156))))
set_option maxHeartbeats 4000000 in
theorem wk_X2_insert_b38 {X : Fx} {K : Hp → Prop} (C : Cx X cX2_insert yX2_insert.cls 5 5) (Rr : Rx X (Option.none : Option Jvm.ClassFile.FieldType) (pV K)) (N : Nm X yX2_insert.name) (h : Hp) (l0 : Option Nat) (l1 : Int32) (l2 : Int32) (w : wp_X2_insert_b38 K h l0 l1 l2) : Gd X h 38 [some (vR [15] l0), some (vI l1), some (vI l2), none, none] [] := by
  unfold wp_X2_insert_b38 at w
  refine g_aload_n 39 rfl C dX2_insert_38 rfl ?_
  obtain ⟨a156, e157, w⟩ := w
  refine g_getI 42 rfl C dX2_insert_39 fl_HashHallModel_Pairs_42 rfl e157 rfl ?_
  refine g_istore_n 43 rfl C dX2_insert_42 (by decide) (rfl : _ = [some (vR [15] _), some (vI _), some (vI _), some (vI _), none]) ?_
  refine g_aload_n 44 rfl C dX2_insert_43 rfl ?_
  refine g_dup 45 rfl C dX2_insert_44 rfl ?_
  refine g_getI 48 rfl C dX2_insert_45 fl_HashHallModel_Pairs_42 rfl e157 rfl ?_
  refine g_iconst 49 rfl C dX2_insert_48 1 rfl ?_
  refine g_iadd 50 rfl C dX2_insert_49 ?_
  refine g_putI 53 rfl C dX2_insert_50 fl_HashHallModel_Pairs_42 rfl rfl e157 rfl ?_
  have w := w _ rfl
  refine g_sub [some none, some none, some none, some none, none] [] rfl rfl ?_
  exact wk_X2_insert_b53 C Rr N _ _ _ _ _ w
def wp_X2_insert (h : Hp) (x0 : Option Nat) (x1 : Int32) (x2 : Int32) (K : Hp → Prop) : Prop :=
  (∃ a96, x0 = some a96 ∧ (((it h 48 a96) < 0 → (∃ a99, (rf h 43 a96) = some a99 ∧ (ln h a99 < 2 ^ 26 → ((¬ (it h 49 a96) = (nI (ln h a99)) → (wp_X2_insert_b38 K h x0 x1 x2)) ∧ ((it h 49 a96) = (nI (ln h a99)) → (wp_X2_grow h x0 (fun h105 => Ex h h105 → (wp_X2_insert_b38 K h105 x0 x1 x2)))))))) ∧ (¬ (it h 48 a96) < 0 → (∃ a108, (rf h 46 a96) = some a108 ∧ (∃ j110, (it h 48 a96) = nI j110 ∧ j110 < ln h a108 ∧ (∀ h113, h113 = wI h 48 a96 (it h (100 + j110) a108) → (wp_X2_insert_b53 K h113 x0 x1 x2 (it h 48 a96))))))))
set_option maxHeartbeats 4000000 in
theorem wk_X2_insert {X : Fx} {K : Hp → Prop} (C : Cx X cX2_insert yX2_insert.cls 5 5) (Rr : Rx X (Option.none : Option Jvm.ClassFile.FieldType) (pV K)) (N : Nm X yX2_insert.name) (h : Hp) (x0 : Option Nat) (x1 : Int32) (x2 : Int32) (w : wp_X2_insert h x0 x1 x2 K) : Gd X h 0 [some (vR [15] x0), some (vI x1), some (vI x2), none, none] [] := by
  unfold wp_X2_insert at w
  refine g_aload_n 1 rfl C dX2_insert_0 rfl ?_
  obtain ⟨a96, e97, w⟩ := w
  refine g_getI 4 rfl C dX2_insert_1 fl_HashHallModel_Pairs_25 rfl e97 rfl ?_
  refine g_istore_n 5 rfl C dX2_insert_4 (by decide) (rfl : _ = [some (vR [15] _), some (vI _), some (vI _), some (vI _), none]) ?_
  refine g_iload_n 6 rfl C dX2_insert_5 rfl ?_
  refine g_if_lt 9 22 rfl C dX2_insert_6 rfl (fun u98 => ?_) (fun u98 => ?_)
  · have w := w.1 u98
    refine g_aload_n 23 rfl C dX2_insert_22 rfl ?_
    refine g_getI 26 rfl C dX2_insert_23 fl_HashHallModel_Pairs_42 rfl e97 rfl ?_
    refine g_aload_n 27 rfl C dX2_insert_26 rfl ?_
    refine g_getR 30 rfl C dX2_insert_27 fl_HashHallModel_Pairs_13 rfl e97 rfl ?_
    obtain ⟨a99, e100, w⟩ := w
    refine g_alen 31 rfl C dX2_insert_30 e100 rfl (fun u101 => ?_)
    have w := w u101
    refine g_icmp_ne 34 38 rfl C dX2_insert_31 rfl (fun u102 => ?_) (fun u102 => ?_)
    · have w := w.1 u102
      refine g_sub [some none, some none, some none, none, none] [] rfl rfl ?_
      exact wk_X2_insert_b38 C Rr N _ _ _ _ w
    · have w := w.2 u102
      refine g_aload_n 35 rfl C dX2_insert_34 rfl ?_
      refine g_callV (As := []) (T := [15]) (st := []) "HashHallModel$Pairs" 38 rfl C dX2_insert_35 q1173 q1175 qs4 q17 q1176 rfl okn_d35abf (by decide) (by decide) (Nat.le_of_ble_eq_true rfl) e97 (fun q => tC rfl q) rfl (ct_X2_grow C.glob w) (fun r0 h105 p106 x107 _ => ?_)
      obtain ⟨rfl, w⟩ := p106
      have w := w x107
      change Gd _ _ _ _ []
      refine g_sub [some none, some none, some none, none, none] [] rfl rfl ?_
      exact wk_X2_insert_b38 C Rr N _ _ _ _ w
  · have w := w.2 u98
    refine g_aload_n 10 rfl C dX2_insert_9 rfl ?_
    refine g_aload_n 11 rfl C dX2_insert_10 rfl ?_
    refine g_getR 14 rfl C dX2_insert_11 fl_HashHallModel_Pairs_22 rfl e97 rfl ?_
    refine g_iload_n 15 rfl C dX2_insert_14 rfl ?_
    obtain ⟨a108, e109, w⟩ := w
    obtain ⟨j110, e111, e112, w⟩ := w
    refine g_iaload 16 rfl C dX2_insert_15 e109 e111 e112 ?_
    refine g_putI 19 rfl C dX2_insert_16 fl_HashHallModel_Pairs_25 rfl rfl e97 rfl ?_
    have w := w _ rfl
    refine g_goto 53 C dX2_insert_19 rfl ?_
    refine g_sub [some none, some none, some none, some none, none] [] rfl rfl ?_
    exact wk_X2_insert_b53 C Rr N _ _ _ _ _ w
theorem ct_X2_insert {E : Gx} (GE : Glob E) {h : Hp} {x0 : Option Nat} {x1 : Int32} {x2 : Int32} {K : Hp → Prop} (w : wp_X2_insert h x0 x1 x2 K) : Ct E yX2_insert cX2_insert 5 (Option.none : Option Jvm.ClassFile.FieldType) 5 [vR [15] x0, vI x1, vI x2] h (pV K) :=
  Ct.of GE (by decide +kernel) (by simp [lvA, t2]) rfl (fun X hX C Rr N => wk_X2_insert C Rr N h x0 x1 x2 w)
def wp_X1_put (h : Hp) (x0 : Option Nat) (x1 : Int32) (x2 : Int32) (x3 : Int32) (K : Int64 → Hp → Prop) : Prop :=
  (wp_X1_isMap h x1 (fun r73 h74 => Ex h h74 → ((¬ r73 = 0 → (∃ a78, x0 = some a78 ∧ (∃ a80, (rf h74 41 a78) = some a80 ∧ (∃ j82, x1 = nI j82 ∧ j82 < ln h74 a80 ∧ (∃ a85, (rf h74 (100 + j82) a80) = some a85 ∧ (wp_X2_find h74 (rf h74 (100 + j82) a80) x2 (fun r88 h89 => Ex h74 h89 → ((0 ≤ r88 → (∃ a93, (rf h89 41 a78) = some a93 ∧ (∃ j95, x1 = nI j95 ∧ j95 < ln h89 a93 ∧ (∃ a98, (rf h89 (100 + j95) a93) = some a98 ∧ (∃ a100, (rf h89 44 a98) = some a100 ∧ (∃ j102, r88 = nI j102 ∧ j102 < ln h89 a100 ∧ (∃ j105, x1 = nI j105 ∧ j105 < ln h89 a93 ∧ (∃ a108, (rf h89 (100 + j105) a93) = some a108 ∧ (∃ a110, (rf h89 44 a108) = some a110 ∧ (∃ j112, r88 = nI j112 ∧ j112 < ln h89 a110 ∧ ∀ h115, h115 = wI h89 (100 + j112) a110 x3 → (wp_X1_use h115 x0 x1 r88 (fun h118 => Ex h115 h118 → (K (((it h89 (100 + j102) a100) : Int32).toInt64) h118))))))))))))) ∧ (¬ 0 ≤ r88 → (∃ a121, (rf h89 41 a78) = some a121 ∧ (∃ j123, x1 = nI j123 ∧ j123 < ln h89 a121 ∧ (∃ a126, (rf h89 (100 + j123) a121) = some a126 ∧ (wp_X2_insert h89 (rf h89 (100 + j123) a121) x2 x3 (fun h130 => Ex h89 h130 → (K (1099511627776 : Int64) h130))))))))))))))) ∧ (r73 = 0 → (K (1099511627777 : Int64) h74)))))
set_option maxHeartbeats 4000000 in
theorem wk_X1_put {X : Fx} {K : Int64 → Hp → Prop} (C : Cx X cX1_put yX1_put.cls 6 6) (Rr : Rx X (Option.some Jvm.ClassFile.FieldType.long) (pJ K)) (N : Nm X yX1_put.name) (h : Hp) (x0 : Option Nat) (x1 : Int32) (x2 : Int32) (x3 : Int32) (w : wp_X1_put h x0 x1 x2 x3 K) : Gd X h 0 [some (vR [14] x0), some (vI x1), some (vI x2), some (vI x3), none, none] [] := by
  unfold wp_X1_put at w
  refine g_iload_n 1 rfl C dX1_put_0 rfl ?_
  refine g_callS (As := [vI _]) (st := []) 4 rfl C dX1_put_1 q1157 q1158 q16 q1159 okn_52e77d (by decide) (by decide) (Nat.le_of_ble_eq_true rfl) rfl (ct_X1_isMap C.glob w) (fun r0 h74 p75 x76 _ => ?_)
  obtain ⟨r73, rfl, w⟩ := p75
  have w := w x76
  change Gd _ _ _ _ (vI r73 :: [])
  refine g_if_ne 7 11 rfl C dX1_put_4 rfl (fun u77 => ?_) (fun u77 => ?_)
  · have w := w.1 u77
    refine g_aload_n 12 rfl C dX1_put_11 rfl ?_
    obtain ⟨a78, e79, w⟩ := w
    refine g_getR 15 rfl C dX1_put_12 fl_HashHallModel_12 rfl e79 rfl ?_
    refine g_iload_n 16 rfl C dX1_put_15 rfl ?_
    obtain ⟨a80, e81, w⟩ := w
    obtain ⟨j82, e83, e84, w⟩ := w
    refine g_aaload 52 17 rfl C dX1_put_16 (by decide) e81 e83 e84 ?_
    refine g_iload_n 18 rfl C dX1_put_17 rfl ?_
    obtain ⟨a85, e86, w⟩ := w
    refine g_callV (As := [vI _]) (T := [15]) (st := []) "HashHallModel$Pairs" 21 rfl C dX1_put_18 q1161 q1162 q1163 q17 q1164 rfl okn_9f7ea2 (by decide) (by decide) (Nat.le_of_ble_eq_true rfl) e86 (fun q => tC rfl q) rfl (ct_X2_find C.glob w) (fun r0 h89 p90 x91 _ => ?_)
    obtain ⟨r88, rfl, w⟩ := p90
    have w := w x91
    change Gd _ _ _ _ (vI r88 :: [])
    refine g_istore 23 rfl C dX1_put_21 (by decide) (rfl : _ = [some (vR [14] _), some (vI _), some (vI _), some (vI _), some (vI _), none]) ?_
    refine g_iload 25 rfl C dX1_put_23 rfl ?_
    refine g_if_ge 28 43 rfl C dX1_put_25 rfl (fun u92 => ?_) (fun u92 => ?_)
    · have w := w.1 u92
      refine g_aload_n 44 rfl C dX1_put_43 rfl ?_
      refine g_getR 47 rfl C dX1_put_44 fl_HashHallModel_12 rfl e79 rfl ?_
      refine g_iload_n 48 rfl C dX1_put_47 rfl ?_
      obtain ⟨a93, e94, w⟩ := w
      obtain ⟨j95, e96, e97, w⟩ := w
      refine g_aaload 52 49 rfl C dX1_put_48 (by decide) e94 e96 e97 ?_
      obtain ⟨a98, e99, w⟩ := w
      refine g_getR 52 rfl C dX1_put_49 fl_HashHallModel_36 rfl e99 rfl ?_
      refine g_iload 54 rfl C dX1_put_52 rfl ?_
      obtain ⟨a100, e101, w⟩ := w
      obtain ⟨j102, e103, e104, w⟩ := w
      refine g_iaload 55 rfl C dX1_put_54 e101 e103 e104 ?_
      refine g_istore 57 rfl C dX1_put_55 (by decide) (rfl : _ = [some (vR [14] _), some (vI _), some (vI _), some (vI _), some (vI _), some (vI _)]) ?_
      refine g_aload_n 58 rfl C dX1_put_57 rfl ?_
      refine g_getR 61 rfl C dX1_put_58 fl_HashHallModel_12 rfl e79 rfl ?_
      refine g_iload_n 62 rfl C dX1_put_61 rfl ?_
      obtain ⟨j105, e106, e107, w⟩ := w
      refine g_aaload 52 63 rfl C dX1_put_62 (by decide) e94 e106 e107 ?_
      obtain ⟨a108, e109, w⟩ := w
      refine g_getR 66 rfl C dX1_put_63 fl_HashHallModel_36 rfl e109 rfl ?_
      refine g_iload 68 rfl C dX1_put_66 rfl ?_
      refine g_iload_n 69 rfl C dX1_put_68 rfl ?_
      obtain ⟨a110, e111, w⟩ := w
      obtain ⟨j112, e113, e114, w⟩ := w
      refine g_iastore 70 rfl C dX1_put_69 e111 e113 e114 ?_
      have w := w _ rfl
      refine g_aload_n 71 rfl C dX1_put_70 rfl ?_
      refine g_iload_n 72 rfl C dX1_put_71 rfl ?_
      refine g_iload 74 rfl C dX1_put_72 rfl ?_
      refine g_callV (As := [vI _, vI _]) (T := [14]) (st := []) "HashHallModel" 77 rfl C dX1_put_74 q1199 q1201 qs6 q16 q1202 rfl okn_610819 (by decide) (by decide) (Nat.le_of_ble_eq_true rfl) e79 (fun q => tC rfl q) rfl (ct_X1_use C.glob w) (fun r0 h118 p119 x120 _ => ?_)
      obtain ⟨rfl, w⟩ := p119
      have w := w x120
      change Gd _ _ _ _ []
      refine g_iload 79 rfl C dX1_put_77 rfl ?_
      refine g_i2l 80 rfl C dX1_put_79 ?_
      exact g_lreturn C Rr dX1_put_80 ⟨_, rfl, w⟩
    · have w := w.2 u92
      refine g_aload_n 29 rfl C dX1_put_28 rfl ?_
      refine g_getR 32 rfl C dX1_put_29 fl_HashHallModel_12 rfl e79 rfl ?_
      refine g_iload_n 33 rfl C dX1_put_32 rfl ?_
      obtain ⟨a121, e122, w⟩ := w
      obtain ⟨j123, e124, e125, w⟩ := w
      refine g_aaload 52 34 rfl C dX1_put_33 (by decide) e122 e124 e125 ?_
      refine g_iload_n 35 rfl C dX1_put_34 rfl ?_
      refine g_iload_n 36 rfl C dX1_put_35 rfl ?_
      obtain ⟨a126, e127, w⟩ := w
      refine g_callV (As := [vI _, vI _]) (T := [15]) (st := []) "HashHallModel$Pairs" 39 rfl C dX1_put_36 q1169 q1170 q1171 q17 q1172 rfl okn_47b45c (by decide) (by decide) (Nat.le_of_ble_eq_true rfl) e127 (fun q => tC rfl q) rfl (ct_X2_insert C.glob w) (fun r0 h130 p131 x132 _ => ?_)
      obtain ⟨rfl, w⟩ := p131
      have w := w x132
      change Gd _ _ _ _ []
      refine g_ldc2 42 rfl C dX1_put_39 q1198 ?_
      exact g_lreturn C Rr dX1_put_42 ⟨_, rfl, w⟩
  · have w := w.2 u77
    refine g_ldc2 10 rfl C dX1_put_7 q1160 ?_
    exact g_lreturn C Rr dX1_put_10 ⟨_, rfl, w⟩
theorem ct_X1_put {E : Gx} (GE : Glob E) {h : Hp} {x0 : Option Nat} {x1 : Int32} {x2 : Int32} {x3 : Int32} {K : Int64 → Hp → Prop} (w : wp_X1_put h x0 x1 x2 x3 K) : Ct E yX1_put cX1_put 6 (Option.some Jvm.ClassFile.FieldType.long) 6 [vR [14] x0, vI x1, vI x2, vI x3] h (pJ K) :=
  Ct.of GE (by decide +kernel) (by simp [lvA, t2]) rfl (fun X hX C Rr N => wk_X1_put C Rr N h x0 x1 x2 x3 w)
def wp_X1_add (h : Hp) (x0 : Option Nat) (x1 : Int32) (x2 : Int32) (x3 : Int32) (K : Int64 → Hp → Prop) : Prop :=
  (wp_X1_isMap h x1 (fun r58 h59 => Ex h h59 → ((¬ r58 = 0 → (∃ a63, x0 = some a63 ∧ (∃ a65, (rf h59 41 a63) = some a65 ∧ (∃ j67, x1 = nI j67 ∧ j67 < ln h59 a65 ∧ (∃ a70, (rf h59 (100 + j67) a65) = some a70 ∧ (wp_X2_find h59 (rf h59 (100 + j67) a65) x2 (fun r73 h74 => Ex h59 h74 → ((0 ≤ r73 → (wp_X1_use h74 x0 x1 r73 (fun h80 => Ex h74 h80 → (∃ a83, (rf h80 41 a63) = some a83 ∧ (∃ j85, x1 = nI j85 ∧ j85 < ln h80 a83 ∧ (∃ a88, (rf h80 (100 + j85) a83) = some a88 ∧ (∃ a90, (rf h80 44 a88) = some a90 ∧ (∃ j92, r73 = nI j92 ∧ j92 < ln h80 a90 ∧ (K (((it h80 (100 + j92) a90) : Int32).toInt64) h80))))))))) ∧ (¬ 0 ≤ r73 → (∃ a95, (rf h74 41 a63) = some a95 ∧ (∃ j97, x1 = nI j97 ∧ j97 < ln h74 a95 ∧ (∃ a100, (rf h74 (100 + j97) a95) = some a100 ∧ (wp_X2_insert h74 (rf h74 (100 + j97) a95) x2 x3 (fun h104 => Ex h74 h104 → (K (1099511627776 : Int64) h104))))))))))))))) ∧ (r58 = 0 → (K (1099511627777 : Int64) h59)))))
set_option maxHeartbeats 4000000 in
theorem wk_X1_add {X : Fx} {K : Int64 → Hp → Prop} (C : Cx X cX1_add yX1_add.cls 5 6) (Rr : Rx X (Option.some Jvm.ClassFile.FieldType.long) (pJ K)) (N : Nm X yX1_add.name) (h : Hp) (x0 : Option Nat) (x1 : Int32) (x2 : Int32) (x3 : Int32) (w : wp_X1_add h x0 x1 x2 x3 K) : Gd X h 0 [some (vR [14] x0), some (vI x1), some (vI x2), some (vI x3), none] [] := by
  unfold wp_X1_add at w
  refine g_iload_n 1 rfl C dX1_add_0 rfl ?_
  refine g_callS (As := [vI _]) (st := []) 4 rfl C dX1_add_1 q1157 q1158 q16 q1159 okn_52e77d (by decide) (by decide) (Nat.le_of_ble_eq_true rfl) rfl (ct_X1_isMap C.glob w) (fun r0 h59 p60 x61 _ => ?_)
  obtain ⟨r58, rfl, w⟩ := p60
  have w := w x61
  change Gd _ _ _ _ (vI r58 :: [])
  refine g_if_ne 7 11 rfl C dX1_add_4 rfl (fun u62 => ?_) (fun u62 => ?_)
  · have w := w.1 u62
    refine g_aload_n 12 rfl C dX1_add_11 rfl ?_
    obtain ⟨a63, e64, w⟩ := w
    refine g_getR 15 rfl C dX1_add_12 fl_HashHallModel_12 rfl e64 rfl ?_
    refine g_iload_n 16 rfl C dX1_add_15 rfl ?_
    obtain ⟨a65, e66, w⟩ := w
    obtain ⟨j67, e68, e69, w⟩ := w
    refine g_aaload 52 17 rfl C dX1_add_16 (by decide) e66 e68 e69 ?_
    refine g_iload_n 18 rfl C dX1_add_17 rfl ?_
    obtain ⟨a70, e71, w⟩ := w
    refine g_callV (As := [vI _]) (T := [15]) (st := []) "HashHallModel$Pairs" 21 rfl C dX1_add_18 q1161 q1162 q1163 q17 q1164 rfl okn_9f7ea2 (by decide) (by decide) (Nat.le_of_ble_eq_true rfl) e71 (fun q => tC rfl q) rfl (ct_X2_find C.glob w) (fun r0 h74 p75 x76 _ => ?_)
    obtain ⟨r73, rfl, w⟩ := p75
    have w := w x76
    change Gd _ _ _ _ (vI r73 :: [])
    refine g_istore 23 rfl C dX1_add_21 (by decide) (rfl : _ = [some (vR [14] _), some (vI _), some (vI _), some (vI _), some (vI _)]) ?_
    refine g_iload 25 rfl C dX1_add_23 rfl ?_
    refine g_if_ge 28 43 rfl C dX1_add_25 rfl (fun u77 => ?_) (fun u77 => ?_)
    · have w := w.1 u77
      refine g_aload_n 44 rfl C dX1_add_43 rfl ?_
      refine g_iload_n 45 rfl C dX1_add_44 rfl ?_
      refine g_iload 47 rfl C dX1_add_45 rfl ?_
      refine g_callV (As := [vI _, vI _]) (T := [14]) (st := []) "HashHallModel" 50 rfl C dX1_add_47 q1199 q1201 qs6 q16 q1202 rfl okn_610819 (by decide) (by decide) (Nat.le_of_ble_eq_true rfl) e64 (fun q => tC rfl q) rfl (ct_X1_use C.glob w) (fun r0 h80 p81 x82 _ => ?_)
      obtain ⟨rfl, w⟩ := p81
      have w := w x82
      change Gd _ _ _ _ []
      refine g_aload_n 51 rfl C dX1_add_50 rfl ?_
      refine g_getR 54 rfl C dX1_add_51 fl_HashHallModel_12 rfl e64 rfl ?_
      refine g_iload_n 55 rfl C dX1_add_54 rfl ?_
      obtain ⟨a83, e84, w⟩ := w
      obtain ⟨j85, e86, e87, w⟩ := w
      refine g_aaload 52 56 rfl C dX1_add_55 (by decide) e84 e86 e87 ?_
      obtain ⟨a88, e89, w⟩ := w
      refine g_getR 59 rfl C dX1_add_56 fl_HashHallModel_36 rfl e89 rfl ?_
      refine g_iload 61 rfl C dX1_add_59 rfl ?_
      obtain ⟨a90, e91, w⟩ := w
      obtain ⟨j92, e93, e94, w⟩ := w
      refine g_iaload 62 rfl C dX1_add_61 e91 e93 e94 ?_
      refine g_i2l 63 rfl C dX1_add_62 ?_
      exact g_lreturn C Rr dX1_add_63 ⟨_, rfl, w⟩
    · have w := w.2 u77
      refine g_aload_n 29 rfl C dX1_add_28 rfl ?_
      refine g_getR 32 rfl C dX1_add_29 fl_HashHallModel_12 rfl e64 rfl ?_
      refine g_iload_n 33 rfl C dX1_add_32 rfl ?_
      obtain ⟨a95, e96, w⟩ := w
      obtain ⟨j97, e98, e99, w⟩ := w
      refine g_aaload 52 34 rfl C dX1_add_33 (by decide) e96 e98 e99 ?_
      refine g_iload_n 35 rfl C dX1_add_34 rfl ?_
      refine g_iload_n 36 rfl C dX1_add_35 rfl ?_
      obtain ⟨a100, e101, w⟩ := w
      refine g_callV (As := [vI _, vI _]) (T := [15]) (st := []) "HashHallModel$Pairs" 39 rfl C dX1_add_36 q1169 q1170 q1171 q17 q1172 rfl okn_47b45c (by decide) (by decide) (Nat.le_of_ble_eq_true rfl) e101 (fun q => tC rfl q) rfl (ct_X2_insert C.glob w) (fun r0 h104 p105 x106 _ => ?_)
      obtain ⟨rfl, w⟩ := p105
      have w := w x106
      change Gd _ _ _ _ []
      refine g_ldc2 42 rfl C dX1_add_39 q1198 ?_
      exact g_lreturn C Rr dX1_add_42 ⟨_, rfl, w⟩
  · have w := w.2 u62
    refine g_ldc2 10 rfl C dX1_add_7 q1160 ?_
    exact g_lreturn C Rr dX1_add_10 ⟨_, rfl, w⟩
theorem ct_X1_add {E : Gx} (GE : Glob E) {h : Hp} {x0 : Option Nat} {x1 : Int32} {x2 : Int32} {x3 : Int32} {K : Int64 → Hp → Prop} (w : wp_X1_add h x0 x1 x2 x3 K) : Ct E yX1_add cX1_add 5 (Option.some Jvm.ClassFile.FieldType.long) 6 [vR [14] x0, vI x1, vI x2, vI x3] h (pJ K) :=
  Ct.of GE (by decide +kernel) (by simp [lvA, t2]) rfl (fun X hX C Rr N => wk_X1_add C Rr N h x0 x1 x2 x3 w)
def wp_X1_get (h : Hp) (x0 : Option Nat) (x1 : Int32) (x2 : Int32) (K : Int64 → Hp → Prop) : Prop :=
  (wp_X1_isMap h x1 (fun r44 h45 => Ex h h45 → ((¬ r44 = 0 → (∃ a49, x0 = some a49 ∧ (∃ a51, (rf h45 41 a49) = some a51 ∧ (∃ j53, x1 = nI j53 ∧ j53 < ln h45 a51 ∧ (∃ a56, (rf h45 (100 + j53) a51) = some a56 ∧ (wp_X2_find h45 (rf h45 (100 + j53) a51) x2 (fun r59 h60 => Ex h45 h60 → ((0 ≤ r59 → (wp_X1_use h60 x0 x1 r59 (fun h66 => Ex h60 h66 → (∃ a69, (rf h66 41 a49) = some a69 ∧ (∃ j71, x1 = nI j71 ∧ j71 < ln h66 a69 ∧ (∃ a74, (rf h66 (100 + j71) a69) = some a74 ∧ (∃ a76, (rf h66 44 a74) = some a76 ∧ (∃ j78, r59 = nI j78 ∧ j78 < ln h66 a76 ∧ (K (((it h66 (100 + j78) a76) : Int32).toInt64) h66))))))))) ∧ (¬ 0 ≤ r59 → (K (1099511627776 : Int64) h60)))))))))) ∧ (r44 = 0 → (K (1099511627777 : Int64) h45)))))
set_option maxHeartbeats 4000000 in
theorem wk_X1_get {X : Fx} {K : Int64 → Hp → Prop} (C : Cx X cX1_get yX1_get.cls 4 5) (Rr : Rx X (Option.some Jvm.ClassFile.FieldType.long) (pJ K)) (N : Nm X yX1_get.name) (h : Hp) (x0 : Option Nat) (x1 : Int32) (x2 : Int32) (w : wp_X1_get h x0 x1 x2 K) : Gd X h 0 [some (vR [14] x0), some (vI x1), some (vI x2), none] [] := by
  unfold wp_X1_get at w
  refine g_iload_n 1 rfl C dX1_get_0 rfl ?_
  refine g_callS (As := [vI _]) (st := []) 4 rfl C dX1_get_1 q1157 q1158 q16 q1159 okn_52e77d (by decide) (by decide) (Nat.le_of_ble_eq_true rfl) rfl (ct_X1_isMap C.glob w) (fun r0 h45 p46 x47 _ => ?_)
  obtain ⟨r44, rfl, w⟩ := p46
  have w := w x47
  change Gd _ _ _ _ (vI r44 :: [])
  refine g_if_ne 7 11 rfl C dX1_get_4 rfl (fun u48 => ?_) (fun u48 => ?_)
  · have w := w.1 u48
    refine g_aload_n 12 rfl C dX1_get_11 rfl ?_
    obtain ⟨a49, e50, w⟩ := w
    refine g_getR 15 rfl C dX1_get_12 fl_HashHallModel_12 rfl e50 rfl ?_
    refine g_iload_n 16 rfl C dX1_get_15 rfl ?_
    obtain ⟨a51, e52, w⟩ := w
    obtain ⟨j53, e54, e55, w⟩ := w
    refine g_aaload 52 17 rfl C dX1_get_16 (by decide) e52 e54 e55 ?_
    refine g_iload_n 18 rfl C dX1_get_17 rfl ?_
    obtain ⟨a56, e57, w⟩ := w
    refine g_callV (As := [vI _]) (T := [15]) (st := []) "HashHallModel$Pairs" 21 rfl C dX1_get_18 q1161 q1162 q1163 q17 q1164 rfl okn_9f7ea2 (by decide) (by decide) (Nat.le_of_ble_eq_true rfl) e57 (fun q => tC rfl q) rfl (ct_X2_find C.glob w) (fun r0 h60 p61 x62 _ => ?_)
    obtain ⟨r59, rfl, w⟩ := p61
    have w := w x62
    change Gd _ _ _ _ (vI r59 :: [])
    refine g_istore_n 22 rfl C dX1_get_21 (by decide) (rfl : _ = [some (vR [14] _), some (vI _), some (vI _), some (vI _)]) ?_
    refine g_iload_n 23 rfl C dX1_get_22 rfl ?_
    refine g_if_ge 26 30 rfl C dX1_get_23 rfl (fun u63 => ?_) (fun u63 => ?_)
    · have w := w.1 u63
      refine g_aload_n 31 rfl C dX1_get_30 rfl ?_
      refine g_iload_n 32 rfl C dX1_get_31 rfl ?_
      refine g_iload_n 33 rfl C dX1_get_32 rfl ?_
      refine g_callV (As := [vI _, vI _]) (T := [14]) (st := []) "HashHallModel" 36 rfl C dX1_get_33 q1199 q1201 qs6 q16 q1202 rfl okn_610819 (by decide) (by decide) (Nat.le_of_ble_eq_true rfl) e50 (fun q => tC rfl q) rfl (ct_X1_use C.glob w) (fun r0 h66 p67 x68 _ => ?_)
      obtain ⟨rfl, w⟩ := p67
      have w := w x68
      change Gd _ _ _ _ []
      refine g_aload_n 37 rfl C dX1_get_36 rfl ?_
      refine g_getR 40 rfl C dX1_get_37 fl_HashHallModel_12 rfl e50 rfl ?_
      refine g_iload_n 41 rfl C dX1_get_40 rfl ?_
      obtain ⟨a69, e70, w⟩ := w
      obtain ⟨j71, e72, e73, w⟩ := w
      refine g_aaload 52 42 rfl C dX1_get_41 (by decide) e70 e72 e73 ?_
      obtain ⟨a74, e75, w⟩ := w
      refine g_getR 45 rfl C dX1_get_42 fl_HashHallModel_36 rfl e75 rfl ?_
      refine g_iload_n 46 rfl C dX1_get_45 rfl ?_
      obtain ⟨a76, e77, w⟩ := w
      obtain ⟨j78, e79, e80, w⟩ := w
      refine g_iaload 47 rfl C dX1_get_46 e77 e79 e80 ?_
      refine g_i2l 48 rfl C dX1_get_47 ?_
      exact g_lreturn C Rr dX1_get_48 ⟨_, rfl, w⟩
    · have w := w.2 u63
      refine g_ldc2 29 rfl C dX1_get_26 q1198 ?_
      exact g_lreturn C Rr dX1_get_29 ⟨_, rfl, w⟩
  · have w := w.2 u48
    refine g_ldc2 10 rfl C dX1_get_7 q1160 ?_
    exact g_lreturn C Rr dX1_get_10 ⟨_, rfl, w⟩
theorem ct_X1_get {E : Gx} (GE : Glob E) {h : Hp} {x0 : Option Nat} {x1 : Int32} {x2 : Int32} {K : Int64 → Hp → Prop} (w : wp_X1_get h x0 x1 x2 K) : Ct E yX1_get cX1_get 4 (Option.some Jvm.ClassFile.FieldType.long) 5 [vR [14] x0, vI x1, vI x2] h (pJ K) :=
  Ct.of GE (by decide +kernel) (by simp [lvA, t2]) rfl (fun X hX C Rr N => wk_X1_get C Rr N h x0 x1 x2 w)
def wp_X1_give_b24 (K : Int64 → Hp → Prop) (h : Hp) (s0 : Int64) : Prop :=
  (K s0 h)
set_option maxHeartbeats 4000000 in
theorem wk_X1_give_b24 {X : Fx} {K : Int64 → Hp → Prop} (C : Cx X cX1_give yX1_give.cls 6 6) (Rr : Rx X (Option.some Jvm.ClassFile.FieldType.long) (pJ K)) (N : Nm X yX1_give.name) (h : Hp) (s0 : Int64) (w : wp_X1_give_b24 K h s0) : Gd X h 24 [none, none, none, none, none, none] [vL s0] := by
  unfold wp_X1_give_b24 at w
  exact g_lreturn C Rr dX1_give_24 ⟨_, rfl, w⟩
def wp_X1_give (h : Hp) (x0 : Option Nat) (x1 : Int32) (x2 : Int32) (x3 : Int32) (K : Int64 → Hp → Prop) : Prop :=
  (∃ a9, x0 = some a9 ∧ (wp_X1_get h x0 x1 x2 (fun r12 h13 => Ex h h13 → ((¬ (lg_cmp r12 (1099511627776 : Int64)) = 0 → (wp_X1_give_b24 K h13 r12)) ∧ ((lg_cmp r12 (1099511627776 : Int64)) = 0 → (wp_X1_give_b24 K h13 ((x3 : Int32).toInt64)))))))
set_option maxHeartbeats 4000000 in
theorem wk_X1_give {X : Fx} {K : Int64 → Hp → Prop} (C : Cx X cX1_give yX1_give.cls 6 6) (Rr : Rx X (Option.some Jvm.ClassFile.FieldType.long) (pJ K)) (N : Nm X yX1_give.name) (h : Hp) (x0 : Option Nat) (x1 : Int32) (x2 : Int32) (x3 : Int32) (w : wp_X1_give h x0 x1 x2 x3 K) : Gd X h 0 [some (vR [14] x0), some (vI x1), some (vI x2), some (vI x3), none, none] [] := by
  unfold wp_X1_give at w
  refine g_aload_n 1 rfl C dX1_give_0 rfl ?_
  refine g_iload_n 2 rfl C dX1_give_1 rfl ?_
  refine g_iload_n 3 rfl C dX1_give_2 rfl ?_
  obtain ⟨a9, e10, w⟩ := w
  refine g_callV (As := [vI _, vI _]) (T := [14]) (st := []) "HashHallModel" 6 rfl C dX1_give_3 q1223 q1216 q1217 q16 q1218 rfl okn_86b887 (by decide) (by decide) (Nat.le_of_ble_eq_true rfl) e10 (fun q => tC rfl q) rfl (ct_X1_get C.glob w) (fun r0 h13 p14 x15 _ => ?_)
  obtain ⟨r12, rfl, w⟩ := p14
  have w := w x15
  change Gd _ _ _ _ (vL r12 :: [])
  refine g_lstore 8 rfl C dX1_give_6 (by decide) (rfl : _ = [some (vR [14] _), some (vI _), some (vI _), some (vI _), some (vL _), none]) ?_
  refine g_lload 10 rfl C dX1_give_8 rfl ?_
  refine g_ldc2 13 rfl C dX1_give_10 q1198 ?_
  refine g_lcmp 14 rfl C dX1_give_13 ?_
  refine g_if_ne 17 22 rfl C dX1_give_14 rfl (fun u16 => ?_) (fun u16 => ?_)
  · have w := w.1 u16
    refine g_lload 24 rfl C dX1_give_22 rfl ?_
    refine g_sub [none, none, none, none, none, none] [none] rfl rfl ?_
    exact wk_X1_give_b24 C Rr N _ _ w
  · have w := w.2 u16
    refine g_iload_n 18 rfl C dX1_give_17 rfl ?_
    refine g_i2l 19 rfl C dX1_give_18 ?_
    refine g_goto 24 C dX1_give_19 rfl ?_
    refine g_sub [none, none, none, none, none, none] [none] rfl rfl ?_
    exact wk_X1_give_b24 C Rr N _ _ w
theorem ct_X1_give {E : Gx} (GE : Glob E) {h : Hp} {x0 : Option Nat} {x1 : Int32} {x2 : Int32} {x3 : Int32} {K : Int64 → Hp → Prop} (w : wp_X1_give h x0 x1 x2 x3 K) : Ct E yX1_give cX1_give 6 (Option.some Jvm.ClassFile.FieldType.long) 6 [vR [14] x0, vI x1, vI x2, vI x3] h (pJ K) :=
  Ct.of GE (by decide +kernel) (by simp [lvA, t2]) rfl (fun X hX C Rr N => wk_X1_give C Rr N h x0 x1 x2 x3 w)
def wp_X2_delete (h : Hp) (x0 : Option Nat) (x1 : Int32) (K : Hp → Prop) : Prop :=
  (∃ a57, x0 = some a57 ∧ (∃ a59, (rf h 43 a57) = some a59 ∧ (∃ j61, x1 = nI j61 ∧ j61 < ln h a59 ∧ (wp_X2_rankOf h x0 (it h (100 + j61) a59) (fun r65 h66 => Ex h h66 → (∀ h69, h69 = wI h66 47 a57 ((it h66 47 a57) - 1) → (∃ a70, (rf h69 42 a57) = some a70 ∧ (∃ i72 j73 c74, (r65 + 1) = nI i72 ∧ r65 = nI j73 ∧ ((it h69 47 a57) - r65) = nI c74 ∧ i72 + c74 ≤ ln h69 a70 ∧ j73 + c74 ≤ ln h69 a70 ∧ ∀ h80, h80 = cpI h69 a70 i72 a70 j73 c74 → (wp_X2_unlink h80 x0 x1 (fun h83 => Ex h80 h83 → (∃ a86, (rf h83 46 a57) = some a86 ∧ (∃ j88, x1 = nI j88 ∧ j88 < ln h83 a86 ∧ ∀ h91, h91 = wI h83 (100 + j88) a86 (it h83 48 a57) → (∀ h92, h92 = wI h91 48 a57 x1 → (K h92))))))))))))))
set_option maxHeartbeats 4000000 in
theorem wk_X2_delete {X : Fx} {K : Hp → Prop} (C : Cx X cX2_delete yX2_delete.cls 3 3) (Rr : Rx X (Option.none : Option Jvm.ClassFile.FieldType) (pV K)) (N : Nm X yX2_delete.name) (h : Hp) (x0 : Option Nat) (x1 : Int32) (w : wp_X2_delete h x0 x1 K) : Gd X h 0 [some (vR [15] x0), some (vI x1), none] [] := by
  unfold wp_X2_delete at w
  refine g_aload_n 1 rfl C dX2_delete_0 rfl ?_
  refine g_aload_n 2 rfl C dX2_delete_1 rfl ?_
  obtain ⟨a57, e58, w⟩ := w
  refine g_getR 5 rfl C dX2_delete_2 fl_HashHallModel_Pairs_13 rfl e58 rfl ?_
  refine g_iload_n 6 rfl C dX2_delete_5 rfl ?_
  obtain ⟨a59, e60, w⟩ := w
  obtain ⟨j61, e62, e63, w⟩ := w
  refine g_iaload 7 rfl C dX2_delete_6 e60 e62 e63 ?_
  refine g_callV (As := [vI _]) (T := [15]) (st := []) "HashHallModel$Pairs" 10 rfl C dX2_delete_7 q1165 q1167 qs3 q17 q1168 rfl okn_8469bd (by decide) (by decide) (Nat.le_of_ble_eq_true rfl) e58 (fun q => tC rfl q) rfl (ct_X2_rankOf C.glob w) (fun r0 h66 p67 x68 _ => ?_)
  obtain ⟨r65, rfl, w⟩ := p67
  have w := w x68
  change Gd _ _ _ _ (vI r65 :: [])
  refine g_istore_n 11 rfl C dX2_delete_10 (by decide) (rfl : _ = [some (vR [15] _), some (vI _), some (vI _)]) ?_
  refine g_aload_n 12 rfl C dX2_delete_11 rfl ?_
  refine g_dup 13 rfl C dX2_delete_12 rfl ?_
  refine g_getI 16 rfl C dX2_delete_13 fl_HashHallModel_Pairs_35 rfl e58 rfl ?_
  refine g_iconst 17 rfl C dX2_delete_16 1 rfl ?_
  refine g_isub 18 rfl C dX2_delete_17 ?_
  refine g_putI 21 rfl C dX2_delete_18 fl_HashHallModel_Pairs_35 rfl rfl e58 rfl ?_
  have w := w _ rfl
  refine g_aload_n 22 rfl C dX2_delete_21 rfl ?_
  refine g_getR 25 rfl C dX2_delete_22 fl_HashHallModel_Pairs_7 rfl e58 rfl ?_
  refine g_iload_n 26 rfl C dX2_delete_25 rfl ?_
  refine g_iconst 27 rfl C dX2_delete_26 1 rfl ?_
  refine g_iadd 28 rfl C dX2_delete_27 ?_
  refine g_aload_n 29 rfl C dX2_delete_28 rfl ?_
  refine g_getR 32 rfl C dX2_delete_29 fl_HashHallModel_Pairs_7 rfl e58 rfl ?_
  refine g_iload_n 33 rfl C dX2_delete_32 rfl ?_
  refine g_aload_n 34 rfl C dX2_delete_33 rfl ?_
  refine g_getI 37 rfl C dX2_delete_34 fl_HashHallModel_Pairs_35 rfl e58 rfl ?_
  refine g_iload_n 38 rfl C dX2_delete_37 rfl ?_
  refine g_isub 39 rfl C dX2_delete_38 ?_
  obtain ⟨a70, e71, w⟩ := w
  obtain ⟨i72, j73, c74, e75, e76, e77, e78, e79, w⟩ := w
  refine g_acopy 42 rfl C dX2_delete_39 q1193 (by decide) (Nat.le_of_ble_eq_true rfl) e71 e71 e75 e76 e77 e78 e79 ?_
  have w := w _ rfl
  refine g_aload_n 43 rfl C dX2_delete_42 rfl ?_
  refine g_iload_n 44 rfl C dX2_delete_43 rfl ?_
  refine g_callV (As := [vI _]) (T := [15]) (st := []) "HashHallModel$Pairs" 47 rfl C dX2_delete_44 q1207 q1209 qs7 q17 q1210 rfl okn_c2067a (by decide) (by decide) (Nat.le_of_ble_eq_true rfl) e58 (fun q => tC rfl q) rfl (ct_X2_unlink C.glob w) (fun r0 h83 p84 x85 _ => ?_)
  obtain ⟨rfl, w⟩ := p84
  have w := w x85
  change Gd _ _ _ _ []
  refine g_aload_n 48 rfl C dX2_delete_47 rfl ?_
  refine g_getR 51 rfl C dX2_delete_48 fl_HashHallModel_Pairs_22 rfl e58 rfl ?_
  refine g_iload_n 52 rfl C dX2_delete_51 rfl ?_
  refine g_aload_n 53 rfl C dX2_delete_52 rfl ?_
  refine g_getI 56 rfl C dX2_delete_53 fl_HashHallModel_Pairs_25 rfl e58 rfl ?_
  obtain ⟨a86, e87, w⟩ := w
  obtain ⟨j88, e89, e90, w⟩ := w
  refine g_iastore 57 rfl C dX2_delete_56 e87 e89 e90 ?_
  have w := w _ rfl
  refine g_aload_n 58 rfl C dX2_delete_57 rfl ?_
  refine g_iload_n 59 rfl C dX2_delete_58 rfl ?_
  refine g_putI 62 rfl C dX2_delete_59 fl_HashHallModel_Pairs_25 rfl rfl e58 rfl ?_
  have w := w _ rfl
  exact g_vreturn C Rr dX2_delete_62 ⟨rfl, w⟩
theorem ct_X2_delete {E : Gx} (GE : Glob E) {h : Hp} {x0 : Option Nat} {x1 : Int32} {K : Hp → Prop} (w : wp_X2_delete h x0 x1 K) : Ct E yX2_delete cX2_delete 3 (Option.none : Option Jvm.ClassFile.FieldType) 3 [vR [15] x0, vI x1] h (pV K) :=
  Ct.of GE (by decide +kernel) (by simp [lvA, t2]) rfl (fun X hX C Rr N => wk_X2_delete C Rr N h x0 x1 w)
def wp_X1_remove (h : Hp) (x0 : Option Nat) (x1 : Int32) (x2 : Int32) (K : Int64 → Hp → Prop) : Prop :=
  (wp_X1_isMap h x1 (fun r51 h52 => Ex h h52 → ((¬ r51 = 0 → (∃ a56, x0 = some a56 ∧ (∃ a58, (rf h52 41 a56) = some a58 ∧ (∃ j60, x1 = nI j60 ∧ j60 < ln h52 a58 ∧ (∃ a63, (rf h52 (100 + j60) a58) = some a63 ∧ (wp_X2_find h52 (rf h52 (100 + j60) a58) x2 (fun r66 h67 => Ex h52 h67 → ((0 ≤ r66 → (∃ a71, (rf h67 41 a56) = some a71 ∧ (∃ j73, x1 = nI j73 ∧ j73 < ln h67 a71 ∧ (∃ a76, (rf h67 (100 + j73) a71) = some a76 ∧ (∃ a78, (rf h67 44 a76) = some a78 ∧ (∃ j80, r66 = nI j80 ∧ j80 < ln h67 a78 ∧ (∃ j83, x1 = nI j83 ∧ j83 < ln h67 a71 ∧ (∃ a86, (rf h67 (100 + j83) a71) = some a86 ∧ (wp_X2_delete h67 (rf h67 (100 + j83) a71) r66 (fun h90 => Ex h67 h90 → (K (((it h67 (100 + j80) a78) : Int32).toInt64) h90))))))))))) ∧ (¬ 0 ≤ r66 → (K (1099511627776 : Int64) h67)))))))))) ∧ (r51 = 0 → (K (1099511627777 : Int64) h52)))))
set_option maxHeartbeats 4000000 in
theorem wk_X1_remove {X : Fx} {K : Int64 → Hp → Prop} (C : Cx X cX1_remove yX1_remove.cls 5 4) (Rr : Rx X (Option.some Jvm.ClassFile.FieldType.long) (pJ K)) (N : Nm X yX1_remove.name) (h : Hp) (x0 : Option Nat) (x1 : Int32) (x2 : Int32) (w : wp_X1_remove h x0 x1 x2 K) : Gd X h 0 [some (vR [14] x0), some (vI x1), some (vI x2), none, none] [] := by
  unfold wp_X1_remove at w
  refine g_iload_n 1 rfl C dX1_remove_0 rfl ?_
  refine g_callS (As := [vI _]) (st := []) 4 rfl C dX1_remove_1 q1157 q1158 q16 q1159 okn_52e77d (by decide) (by decide) (Nat.le_of_ble_eq_true rfl) rfl (ct_X1_isMap C.glob w) (fun r0 h52 p53 x54 _ => ?_)
  obtain ⟨r51, rfl, w⟩ := p53
  have w := w x54
  change Gd _ _ _ _ (vI r51 :: [])
  refine g_if_ne 7 11 rfl C dX1_remove_4 rfl (fun u55 => ?_) (fun u55 => ?_)
  · have w := w.1 u55
    refine g_aload_n 12 rfl C dX1_remove_11 rfl ?_
    obtain ⟨a56, e57, w⟩ := w
    refine g_getR 15 rfl C dX1_remove_12 fl_HashHallModel_12 rfl e57 rfl ?_
    refine g_iload_n 16 rfl C dX1_remove_15 rfl ?_
    obtain ⟨a58, e59, w⟩ := w
    obtain ⟨j60, e61, e62, w⟩ := w
    refine g_aaload 52 17 rfl C dX1_remove_16 (by decide) e59 e61 e62 ?_
    refine g_iload_n 18 rfl C dX1_remove_17 rfl ?_
    obtain ⟨a63, e64, w⟩ := w
    refine g_callV (As := [vI _]) (T := [15]) (st := []) "HashHallModel$Pairs" 21 rfl C dX1_remove_18 q1161 q1162 q1163 q17 q1164 rfl okn_9f7ea2 (by decide) (by decide) (Nat.le_of_ble_eq_true rfl) e64 (fun q => tC rfl q) rfl (ct_X2_find C.glob w) (fun r0 h67 p68 x69 _ => ?_)
    obtain ⟨r66, rfl, w⟩ := p68
    have w := w x69
    change Gd _ _ _ _ (vI r66 :: [])
    refine g_istore_n 22 rfl C dX1_remove_21 (by decide) (rfl : _ = [some (vR [14] _), some (vI _), some (vI _), some (vI _), none]) ?_
    refine g_iload_n 23 rfl C dX1_remove_22 rfl ?_
    refine g_if_ge 26 30 rfl C dX1_remove_23 rfl (fun u70 => ?_) (fun u70 => ?_)
    · have w := w.1 u70
      refine g_aload_n 31 rfl C dX1_remove_30 rfl ?_
      refine g_getR 34 rfl C dX1_remove_31 fl_HashHallModel_12 rfl e57 rfl ?_
      refine g_iload_n 35 rfl C dX1_remove_34 rfl ?_
      obtain ⟨a71, e72, w⟩ := w
      obtain ⟨j73, e74, e75, w⟩ := w
      refine g_aaload 52 36 rfl C dX1_remove_35 (by decide) e72 e74 e75 ?_
      obtain ⟨a76, e77, w⟩ := w
      refine g_getR 39 rfl C dX1_remove_36 fl_HashHallModel_36 rfl e77 rfl ?_
      refine g_iload_n 40 rfl C dX1_remove_39 rfl ?_
      obtain ⟨a78, e79, w⟩ := w
      obtain ⟨j80, e81, e82, w⟩ := w
      refine g_iaload 41 rfl C dX1_remove_40 e79 e81 e82 ?_
      refine g_istore 43 rfl C dX1_remove_41 (by decide) (rfl : _ = [some (vR [14] _), some (vI _), some (vI _), some (vI _), some (vI _)]) ?_
      refine g_aload_n 44 rfl C dX1_remove_43 rfl ?_
      refine g_getR 47 rfl C dX1_remove_44 fl_HashHallModel_12 rfl e57 rfl ?_
      refine g_iload_n 48 rfl C dX1_remove_47 rfl ?_
      obtain ⟨j83, e84, e85, w⟩ := w
      refine g_aaload 52 49 rfl C dX1_remove_48 (by decide) e72 e84 e85 ?_
      refine g_iload_n 50 rfl C dX1_remove_49 rfl ?_
      obtain ⟨a86, e87, w⟩ := w
      refine g_callV (As := [vI _]) (T := [15]) (st := []) "HashHallModel$Pairs" 53 rfl C dX1_remove_50 q1228 q1229 q1230 q17 q1231 rfl okn_770c05 (by decide) (by decide) (Nat.le_of_ble_eq_true rfl) e87 (fun q => tC rfl q) rfl (ct_X2_delete C.glob w) (fun r0 h90 p91 x92 _ => ?_)
      obtain ⟨rfl, w⟩ := p91
      have w := w x92
      change Gd _ _ _ _ []
      refine g_iload 55 rfl C dX1_remove_53 rfl ?_
      refine g_i2l 56 rfl C dX1_remove_55 ?_
      exact g_lreturn C Rr dX1_remove_56 ⟨_, rfl, w⟩
    · have w := w.2 u70
      refine g_ldc2 29 rfl C dX1_remove_26 q1198 ?_
      exact g_lreturn C Rr dX1_remove_29 ⟨_, rfl, w⟩
  · have w := w.2 u55
    refine g_ldc2 10 rfl C dX1_remove_7 q1160 ?_
    exact g_lreturn C Rr dX1_remove_10 ⟨_, rfl, w⟩
theorem ct_X1_remove {E : Gx} (GE : Glob E) {h : Hp} {x0 : Option Nat} {x1 : Int32} {x2 : Int32} {K : Int64 → Hp → Prop} (w : wp_X1_remove h x0 x1 x2 K) : Ct E yX1_remove cX1_remove 5 (Option.some Jvm.ClassFile.FieldType.long) 4 [vR [14] x0, vI x1, vI x2] h (pJ K) :=
  Ct.of GE (by decide +kernel) (by simp [lvA, t2]) rfl (fun X hX C Rr N => wk_X1_remove C Rr N h x0 x1 x2 w)
def wp_X1_take_b44 (K : Int32 → Hp → Prop) (h : Hp)  : Prop :=
  (K 0 h)
set_option maxHeartbeats 4000000 in
theorem wk_X1_take_b44 {X : Fx} {K : Int32 → Hp → Prop} (C : Cx X cX1_take yX1_take.cls 5 4) (Rr : Rx X (Option.some Jvm.ClassFile.FieldType.boolean) (pI K)) (N : Nm X yX1_take.name) (h : Hp)  (w : wp_X1_take_b44 K h ) : Gd X h 44 [none, none, none, none, none] [] := by
  unfold wp_X1_take_b44 at w
  refine g_iconst 45 rfl C dX1_take_44 0 rfl ?_
  exact g_zreturn C Rr dX1_take_45 (Or.inl rfl) ⟨_, rfl, w⟩
def wp_X1_take_b21 (K : Int32 → Hp → Prop) (h : Hp) (l0 : Option Nat) (l1 : Int32) (l3 : Int32) (s0 : Int32) : Prop :=
  ((s0 < 0 → (wp_X1_take_b44 K h)) ∧ (¬ s0 < 0 → (∃ a72, l0 = some a72 ∧ (∃ a74, (rf h 41 a72) = some a74 ∧ (∃ j76, l1 = nI j76 ∧ j76 < ln h a74 ∧ (∃ a79, (rf h (100 + j76) a74) = some a79 ∧ (∃ a81, (rf h 44 a79) = some a81 ∧ (∃ j83, s0 = nI j83 ∧ j83 < ln h a81 ∧ (((it h (100 + j83) a81) = l3 → (∃ j87, l1 = nI j87 ∧ j87 < ln h a74 ∧ (∃ a90, (rf h (100 + j87) a74) = some a90 ∧ (wp_X2_delete h (rf h (100 + j87) a74) s0 (fun h94 => Ex h h94 → (K 1 h94)))))) ∧ (¬ (it h (100 + j83) a81) = l3 → (wp_X1_take_b44 K h)))))))))))
set_option maxHeartbeats 4000000 in
theorem wk_X1_take_b21 {X : Fx} {K : Int32 → Hp → Prop} (C : Cx X cX1_take yX1_take.cls 5 4) (Rr : Rx X (Option.some Jvm.ClassFile.FieldType.boolean) (pI K)) (N : Nm X yX1_take.name) (h : Hp) (l0 : Option Nat) (l1 : Int32) (l3 : Int32) (s0 : Int32) (w : wp_X1_take_b21 K h l0 l1 l3 s0) : Gd X h 21 [some (vR [14] l0), some (vI l1), none, some (vI l3), none] [vI s0] := by
  unfold wp_X1_take_b21 at w
  refine g_istore 23 rfl C dX1_take_21 (by decide) (rfl : _ = [some (vR [14] _), some (vI _), none, some (vI _), some (vI _)]) ?_
  refine g_iload 25 rfl C dX1_take_23 rfl ?_
  refine g_if_lt 28 44 rfl C dX1_take_25 rfl (fun u71 => ?_) (fun u71 => ?_)
  · have w := w.1 u71
    refine g_sub [none, none, none, none, none] [] rfl rfl ?_
    exact wk_X1_take_b44 C Rr N _ w
  · have w := w.2 u71
    refine g_aload_n 29 rfl C dX1_take_28 rfl ?_
    obtain ⟨a72, e73, w⟩ := w
    refine g_getR 32 rfl C dX1_take_29 fl_HashHallModel_12 rfl e73 rfl ?_
    refine g_iload_n 33 rfl C dX1_take_32 rfl ?_
    obtain ⟨a74, e75, w⟩ := w
    obtain ⟨j76, e77, e78, w⟩ := w
    refine g_aaload 52 34 rfl C dX1_take_33 (by decide) e75 e77 e78 ?_
    obtain ⟨a79, e80, w⟩ := w
    refine g_getR 37 rfl C dX1_take_34 fl_HashHallModel_36 rfl e80 rfl ?_
    refine g_iload 39 rfl C dX1_take_37 rfl ?_
    obtain ⟨a81, e82, w⟩ := w
    obtain ⟨j83, e84, e85, w⟩ := w
    refine g_iaload 40 rfl C dX1_take_39 e82 e84 e85 ?_
    refine g_iload_n 41 rfl C dX1_take_40 rfl ?_
    refine g_icmp_eq 44 46 rfl C dX1_take_41 rfl (fun u86 => ?_) (fun u86 => ?_)
    · have w := w.1 u86
      refine g_aload_n 47 rfl C dX1_take_46 rfl ?_
      refine g_getR 50 rfl C dX1_take_47 fl_HashHallModel_12 rfl e73 rfl ?_
      refine g_iload_n 51 rfl C dX1_take_50 rfl ?_
      obtain ⟨j87, e88, e89, w⟩ := w
      refine g_aaload 52 52 rfl C dX1_take_51 (by decide) e75 e88 e89 ?_
      refine g_iload 54 rfl C dX1_take_52 rfl ?_
      obtain ⟨a90, e91, w⟩ := w
      refine g_callV (As := [vI _]) (T := [15]) (st := []) "HashHallModel$Pairs" 57 rfl C dX1_take_54 q1228 q1229 q1230 q17 q1231 rfl okn_770c05 (by decide) (by decide) (Nat.le_of_ble_eq_true rfl) e91 (fun q => tC rfl q) rfl (ct_X2_delete C.glob w) (fun r0 h94 p95 x96 _ => ?_)
      obtain ⟨rfl, w⟩ := p95
      have w := w x96
      change Gd _ _ _ _ []
      refine g_iconst 58 rfl C dX1_take_57 1 rfl ?_
      exact g_zreturn C Rr dX1_take_58 (Or.inr rfl) ⟨_, rfl, w⟩
    · have w := w.2 u86
      refine g_sub [none, none, none, none, none] [] rfl rfl ?_
      exact wk_X1_take_b44 C Rr N _ w
def wp_X1_take (h : Hp) (x0 : Option Nat) (x1 : Int32) (x2 : Int32) (x3 : Int32) (K : Int32 → Hp → Prop) : Prop :=
  (wp_X1_isMap h x1 (fun r52 h53 => Ex h h53 → ((r52 = 0 → (wp_X1_take_b21 K h53 x0 x1 x3 (-1))) ∧ (¬ r52 = 0 → (∃ a57, x0 = some a57 ∧ (∃ a59, (rf h53 41 a57) = some a59 ∧ (∃ j61, x1 = nI j61 ∧ j61 < ln h53 a59 ∧ (∃ a64, (rf h53 (100 + j61) a59) = some a64 ∧ (wp_X2_find h53 (rf h53 (100 + j61) a59) x2 (fun r67 h68 => Ex h53 h68 → (wp_X1_take_b21 K h68 x0 x1 x3 r67)))))))))))
set_option maxHeartbeats 4000000 in
theorem wk_X1_take {X : Fx} {K : Int32 → Hp → Prop} (C : Cx X cX1_take yX1_take.cls 5 4) (Rr : Rx X (Option.some Jvm.ClassFile.FieldType.boolean) (pI K)) (N : Nm X yX1_take.name) (h : Hp) (x0 : Option Nat) (x1 : Int32) (x2 : Int32) (x3 : Int32) (w : wp_X1_take h x0 x1 x2 x3 K) : Gd X h 0 [some (vR [14] x0), some (vI x1), some (vI x2), some (vI x3), none] [] := by
  unfold wp_X1_take at w
  refine g_iload_n 1 rfl C dX1_take_0 rfl ?_
  refine g_callS (As := [vI _]) (st := []) 4 rfl C dX1_take_1 q1157 q1158 q16 q1159 okn_52e77d (by decide) (by decide) (Nat.le_of_ble_eq_true rfl) rfl (ct_X1_isMap C.glob w) (fun r0 h53 p54 x55 _ => ?_)
  obtain ⟨r52, rfl, w⟩ := p54
  have w := w x55
  change Gd _ _ _ _ (vI r52 :: [])
  refine g_if_eq 7 20 rfl C dX1_take_4 rfl (fun u56 => ?_) (fun u56 => ?_)
  · have w := w.1 u56
    refine g_iconst 21 rfl C dX1_take_20 (-1) rfl ?_
    refine g_sub [some none, some none, none, some none, none] [none] rfl rfl ?_
    exact wk_X1_take_b21 C Rr N _ _ _ _ _ w
  · have w := w.2 u56
    refine g_aload_n 8 rfl C dX1_take_7 rfl ?_
    obtain ⟨a57, e58, w⟩ := w
    refine g_getR 11 rfl C dX1_take_8 fl_HashHallModel_12 rfl e58 rfl ?_
    refine g_iload_n 12 rfl C dX1_take_11 rfl ?_
    obtain ⟨a59, e60, w⟩ := w
    obtain ⟨j61, e62, e63, w⟩ := w
    refine g_aaload 52 13 rfl C dX1_take_12 (by decide) e60 e62 e63 ?_
    refine g_iload_n 14 rfl C dX1_take_13 rfl ?_
    obtain ⟨a64, e65, w⟩ := w
    refine g_callV (As := [vI _]) (T := [15]) (st := []) "HashHallModel$Pairs" 17 rfl C dX1_take_14 q1161 q1162 q1163 q17 q1164 rfl okn_9f7ea2 (by decide) (by decide) (Nat.le_of_ble_eq_true rfl) e65 (fun q => tC rfl q) rfl (ct_X2_find C.glob w) (fun r0 h68 p69 x70 _ => ?_)
    obtain ⟨r67, rfl, w⟩ := p69
    have w := w x70
    change Gd _ _ _ _ (vI r67 :: [])
    refine g_goto 21 C dX1_take_17 rfl ?_
    refine g_sub [some none, some none, none, some none, none] [none] rfl rfl ?_
    exact wk_X1_take_b21 C Rr N _ _ _ _ _ w
theorem ct_X1_take {E : Gx} (GE : Glob E) {h : Hp} {x0 : Option Nat} {x1 : Int32} {x2 : Int32} {x3 : Int32} {K : Int32 → Hp → Prop} (w : wp_X1_take h x0 x1 x2 x3 K) : Ct E yX1_take cX1_take 5 (Option.some Jvm.ClassFile.FieldType.boolean) 4 [vR [14] x0, vI x1, vI x2, vI x3] h (pI K) :=
  Ct.of GE (by decide +kernel) (by simp [lvA, t2]) rfl (fun X hX C Rr N => wk_X1_take C Rr N h x0 x1 x2 x3 w)
def wp_X1_has_b16 (K : Int32 → Hp → Prop) (h : Hp)  : Prop :=
  (K 0 h)
set_option maxHeartbeats 4000000 in
theorem wk_X1_has_b16 {X : Fx} {K : Int32 → Hp → Prop} (C : Cx X cX1_has yX1_has.cls 5 4) (Rr : Rx X (Option.some Jvm.ClassFile.FieldType.boolean) (pI K)) (N : Nm X yX1_has.name) (h : Hp)  (w : wp_X1_has_b16 K h ) : Gd X h 16 [none, none, none, none, none] [] := by
  unfold wp_X1_has_b16 at w
  refine g_iconst 17 rfl C dX1_has_16 0 rfl ?_
  exact g_zreturn C Rr dX1_has_17 (Or.inl rfl) ⟨_, rfl, w⟩
def wp_X1_has_b40 (K : Int32 → Hp → Prop) (h : Hp) (s0 : Int32) : Prop :=
  ((s0 = 0 ∨ s0 = 1) ∧ K s0 h)
set_option maxHeartbeats 4000000 in
theorem wk_X1_has_b40 {X : Fx} {K : Int32 → Hp → Prop} (C : Cx X cX1_has yX1_has.cls 5 4) (Rr : Rx X (Option.some Jvm.ClassFile.FieldType.boolean) (pI K)) (N : Nm X yX1_has.name) (h : Hp) (s0 : Int32) (w : wp_X1_has_b40 K h s0) : Gd X h 40 [none, none, none, none, none] [vI s0] := by
  unfold wp_X1_has_b40 at w
  exact g_zreturn C Rr dX1_has_40 w.1 ⟨_, rfl, w.2⟩
def wp_X1_has_b44 (K : Int32 → Hp → Prop) : Nat → Hp → Option Nat → Int32 → Int32 → Int32 → Prop
  | 0 => fun _ _ _ _ _ => False
  | m9 + 1 => fun h l0 l1 l3 l4 =>
    (∃ a88, l0 = some a88 ∧ (∃ a90, (rf h 41 a88) = some a90 ∧ (∃ j92, l1 = nI j92 ∧ j92 < ln h a90 ∧ (∃ a95, (rf h (100 + j92) a90) = some a95 ∧ (((it h 47 a95) ≤ l4 → (K 0 h)) ∧ (¬ (it h 47 a95) ≤ l4 → (∃ j98, l1 = nI j98 ∧ j98 < ln h a90 ∧ (∃ a101, (rf h (100 + j98) a90) = some a101 ∧ (∃ j103, l1 = nI j103 ∧ j103 < ln h a90 ∧ (∃ a106, (rf h (100 + j103) a90) = some a106 ∧ (∃ a108, (rf h 42 a106) = some a108 ∧ (∃ j110, l4 = nI j110 ∧ j110 < ln h a108 ∧ (∃ a113, (rf h 44 a101) = some a113 ∧ (∃ j115, (it h (100 + j110) a108) = nI j115 ∧ j115 < ln h a113 ∧ ((¬ (it h (100 + j115) a113) = l3 → (wp_X1_has_b44 K m9 h l0 l1 l3 (l4 + 1))) ∧ ((it h (100 + j115) a113) = l3 → (K 1 h)))))))))))))))))
set_option maxHeartbeats 4000000 in
theorem wk_X1_has_b44 {X : Fx} {K : Int32 → Hp → Prop} (C : Cx X cX1_has yX1_has.cls 5 4) (Rr : Rx X (Option.some Jvm.ClassFile.FieldType.boolean) (pI K)) (N : Nm X yX1_has.name) : ∀ (n : Nat) (h : Hp) (l0 : Option Nat) (l1 : Int32) (l3 : Int32) (l4 : Int32), wp_X1_has_b44 K n h l0 l1 l3 l4 → Gd X h 44 [some (vR [14] l0), some (vI l1), none, some (vI l3), some (vI l4)] [] := by
  intro n
  induction n with
  | zero => intro h l0 l1 l3 l4 w; exact w.elim
  | succ n ih =>
    intro h l0 l1 l3 l4 w
    unfold wp_X1_has_b44 at w
    refine g_iload 46 rfl C dX1_has_44 rfl ?_
    refine g_aload_n 47 rfl C dX1_has_46 rfl ?_
    obtain ⟨a88, e89, w⟩ := w
    refine g_getR 50 rfl C dX1_has_47 fl_HashHallModel_12 rfl e89 rfl ?_
    refine g_iload_n 51 rfl C dX1_has_50 rfl ?_
    obtain ⟨a90, e91, w⟩ := w
    obtain ⟨j92, e93, e94, w⟩ := w
    refine g_aaload 52 52 rfl C dX1_has_51 (by decide) e91 e93 e94 ?_
    obtain ⟨a95, e96, w⟩ := w
    refine g_getI 55 rfl C dX1_has_52 fl_HashHallModel_50 rfl e96 rfl ?_
    refine g_icmp_ge 58 92 rfl C dX1_has_55 rfl (fun u97 => ?_) (fun u97 => ?_)
    · have w := w.1 u97
      refine g_iconst 93 rfl C dX1_has_92 0 rfl ?_
      exact g_zreturn C Rr dX1_has_93 (Or.inl rfl) ⟨_, rfl, w⟩
    · have w := w.2 u97
      refine g_aload_n 59 rfl C dX1_has_58 rfl ?_
      refine g_getR 62 rfl C dX1_has_59 fl_HashHallModel_12 rfl e89 rfl ?_
      refine g_iload_n 63 rfl C dX1_has_62 rfl ?_
      obtain ⟨j98, e99, e100, w⟩ := w
      refine g_aaload 52 64 rfl C dX1_has_63 (by decide) e91 e99 e100 ?_
      obtain ⟨a101, e102, w⟩ := w
      refine g_getR 67 rfl C dX1_has_64 fl_HashHallModel_36 rfl e102 rfl ?_
      refine g_aload_n 68 rfl C dX1_has_67 rfl ?_
      refine g_getR 71 rfl C dX1_has_68 fl_HashHallModel_12 rfl e89 rfl ?_
      refine g_iload_n 72 rfl C dX1_has_71 rfl ?_
      obtain ⟨j103, e104, e105, w⟩ := w
      refine g_aaload 52 73 rfl C dX1_has_72 (by decide) e91 e104 e105 ?_
      obtain ⟨a106, e107, w⟩ := w
      refine g_getR 76 rfl C dX1_has_73 fl_HashHallModel_54 rfl e107 rfl ?_
      refine g_iload 78 rfl C dX1_has_76 rfl ?_
      obtain ⟨a108, e109, w⟩ := w
      obtain ⟨j110, e111, e112, w⟩ := w
      refine g_iaload 79 rfl C dX1_has_78 e109 e111 e112 ?_
      obtain ⟨a113, e114, w⟩ := w
      obtain ⟨j115, e116, e117, w⟩ := w
      refine g_iaload 80 rfl C dX1_has_79 e114 e116 e117 ?_
      refine g_iload_n 81 rfl C dX1_has_80 rfl ?_
      refine g_icmp_ne 84 86 rfl C dX1_has_81 rfl (fun u118 => ?_) (fun u118 => ?_)
      · have w := w.1 u118
        refine g_iinc 89 rfl C dX1_has_86 rfl _ rfl (by decide) (rfl : _ = [some (vR [14] _), some (vI _), none, some (vI _), some (vI _)]) ?_
        refine g_goto 44 C dX1_has_89 rfl ?_
        refine g_sub [some none, some none, none, some none, some none] [] rfl rfl ?_
        exact ih _ _ _ _ _ w
      · have w := w.2 u118
        refine g_iconst 85 rfl C dX1_has_84 1 rfl ?_
        exact g_zreturn C Rr dX1_has_85 (Or.inr rfl) ⟨_, rfl, w⟩
def wp_X1_has_b18 (K : Int32 → Hp → Prop) (h : Hp) (l0 : Option Nat) (l1 : Int32) (l2 : Int32) (l3 : Int32) : Prop :=
  ((¬ l2 = 0 → (∃ n, wp_X1_has_b44 K n h l0 l1 l3 0)) ∧ (l2 = 0 → (∃ a73, l0 = some a73 ∧ (∃ a75, (rf h 41 a73) = some a75 ∧ (∃ j77, l1 = nI j77 ∧ j77 < ln h a75 ∧ (∃ a80, (rf h (100 + j77) a75) = some a80 ∧ (wp_X2_find h (rf h (100 + j77) a75) l3 (fun r83 h84 => Ex h h84 → ((r83 < 0 → (wp_X1_has_b40 K h84 0)) ∧ (¬ r83 < 0 → (wp_X1_has_b40 K h84 1)))))))))))
set_option maxHeartbeats 4000000 in
theorem wk_X1_has_b18 {X : Fx} {K : Int32 → Hp → Prop} (C : Cx X cX1_has yX1_has.cls 5 4) (Rr : Rx X (Option.some Jvm.ClassFile.FieldType.boolean) (pI K)) (N : Nm X yX1_has.name) (h : Hp) (l0 : Option Nat) (l1 : Int32) (l2 : Int32) (l3 : Int32) (w : wp_X1_has_b18 K h l0 l1 l2 l3) : Gd X h 18 [some (vR [14] l0), some (vI l1), some (vI l2), some (vI l3), none] [] := by
  unfold wp_X1_has_b18 at w
  refine g_iload_n 19 rfl C dX1_has_18 rfl ?_
  refine g_if_ne 22 41 rfl C dX1_has_19 rfl (fun u72 => ?_) (fun u72 => ?_)
  · have w := w.1 u72
    refine g_iconst 42 rfl C dX1_has_41 0 rfl ?_
    refine g_istore 44 rfl C dX1_has_42 (by decide) (rfl : _ = [some (vR [14] _), some (vI _), some (vI _), some (vI _), some (vI _)]) ?_
    refine g_sub [some none, some none, none, some none, some none] [] rfl rfl ?_
    obtain ⟨n9, w⟩ := w
    exact wk_X1_has_b44 C Rr N n9 _ _ _ _ _ w
  · have w := w.2 u72
    refine g_aload_n 23 rfl C dX1_has_22 rfl ?_
    obtain ⟨a73, e74, w⟩ := w
    refine g_getR 26 rfl C dX1_has_23 fl_HashHallModel_12 rfl e74 rfl ?_
    refine g_iload_n 27 rfl C dX1_has_26 rfl ?_
    obtain ⟨a75, e76, w⟩ := w
    obtain ⟨j77, e78, e79, w⟩ := w
    refine g_aaload 52 28 rfl C dX1_has_27 (by decide) e76 e78 e79 ?_
    refine g_iload_n 29 rfl C dX1_has_28 rfl ?_
    obtain ⟨a80, e81, w⟩ := w
    refine g_callV (As := [vI _]) (T := [15]) (st := []) "HashHallModel$Pairs" 32 rfl C dX1_has_29 q1161 q1162 q1163 q17 q1164 rfl okn_9f7ea2 (by decide) (by decide) (Nat.le_of_ble_eq_true rfl) e81 (fun q => tC rfl q) rfl (ct_X2_find C.glob w) (fun r0 h84 p85 x86 _ => ?_)
    obtain ⟨r83, rfl, w⟩ := p85
    have w := w x86
    change Gd _ _ _ _ (vI r83 :: [])
    refine g_if_lt 35 39 rfl C dX1_has_32 rfl (fun u87 => ?_) (fun u87 => ?_)
    · have w := w.1 u87
      refine g_iconst 40 rfl C dX1_has_39 0 rfl ?_
      refine g_sub [none, none, none, none, none] [none] rfl rfl ?_
      exact wk_X1_has_b40 C Rr N _ _ w
    · have w := w.2 u87
      refine g_iconst 36 rfl C dX1_has_35 1 rfl ?_
      refine g_goto 40 C dX1_has_36 rfl ?_
      refine g_sub [none, none, none, none, none] [none] rfl rfl ?_
      exact wk_X1_has_b40 C Rr N _ _ w
def wp_X1_has (h : Hp) (x0 : Option Nat) (x1 : Int32) (x2 : Int32) (x3 : Int32) (K : Int32 → Hp → Prop) : Prop :=
  (wp_X1_isMap h x1 (fun r65 h66 => Ex h h66 → ((r65 = 0 → (wp_X1_has_b16 K h66)) ∧ (¬ r65 = 0 → ((x2 = 0 → (wp_X1_has_b18 K h66 x0 x1 x2 x3)) ∧ (¬ x2 = 0 → ((x2 = 1 → (wp_X1_has_b18 K h66 x0 x1 x2 x3)) ∧ (¬ x2 = 1 → (wp_X1_has_b16 K h66)))))))))
set_option maxHeartbeats 4000000 in
theorem wk_X1_has {X : Fx} {K : Int32 → Hp → Prop} (C : Cx X cX1_has yX1_has.cls 5 4) (Rr : Rx X (Option.some Jvm.ClassFile.FieldType.boolean) (pI K)) (N : Nm X yX1_has.name) (h : Hp) (x0 : Option Nat) (x1 : Int32) (x2 : Int32) (x3 : Int32) (w : wp_X1_has h x0 x1 x2 x3 K) : Gd X h 0 [some (vR [14] x0), some (vI x1), some (vI x2), some (vI x3), none] [] := by
  unfold wp_X1_has at w
  refine g_iload_n 1 rfl C dX1_has_0 rfl ?_
  refine g_callS (As := [vI _]) (st := []) 4 rfl C dX1_has_1 q1157 q1158 q16 q1159 okn_52e77d (by decide) (by decide) (Nat.le_of_ble_eq_true rfl) rfl (ct_X1_isMap C.glob w) (fun r0 h66 p67 x68 _ => ?_)
  obtain ⟨r65, rfl, w⟩ := p67
  have w := w x68
  change Gd _ _ _ _ (vI r65 :: [])
  refine g_if_eq 7 16 rfl C dX1_has_4 rfl (fun u69 => ?_) (fun u69 => ?_)
  · have w := w.1 u69
    refine g_sub [none, none, none, none, none] [] rfl rfl ?_
    exact wk_X1_has_b16 C Rr N _ w
  · have w := w.2 u69
    refine g_iload_n 8 rfl C dX1_has_7 rfl ?_
    refine g_if_eq 11 18 rfl C dX1_has_8 rfl (fun u70 => ?_) (fun u70 => ?_)
    · have w := w.1 u70
      refine g_sub [some none, some none, some none, some none, none] [] rfl rfl ?_
      exact wk_X1_has_b18 C Rr N _ _ _ _ _ w
    · have w := w.2 u70
      refine g_iload_n 12 rfl C dX1_has_11 rfl ?_
      refine g_iconst 13 rfl C dX1_has_12 1 rfl ?_
      refine g_icmp_eq 16 18 rfl C dX1_has_13 rfl (fun u71 => ?_) (fun u71 => ?_)
      · have w := w.1 u71
        refine g_sub [some none, some none, some none, some none, none] [] rfl rfl ?_
        exact wk_X1_has_b18 C Rr N _ _ _ _ _ w
      · have w := w.2 u71
        refine g_sub [none, none, none, none, none] [] rfl rfl ?_
        exact wk_X1_has_b16 C Rr N _ w
theorem ct_X1_has {E : Gx} (GE : Glob E) {h : Hp} {x0 : Option Nat} {x1 : Int32} {x2 : Int32} {x3 : Int32} {K : Int32 → Hp → Prop} (w : wp_X1_has h x0 x1 x2 x3 K) : Ct E yX1_has cX1_has 5 (Option.some Jvm.ClassFile.FieldType.boolean) 4 [vR [14] x0, vI x1, vI x2, vI x3] h (pI K) :=
  Ct.of GE (by decide +kernel) (by simp [lvA, t2]) rfl (fun X hX C Rr N => wk_X1_has C Rr N h x0 x1 x2 x3 w)
def wp_X1_size_b20 (K : Int32 → Hp → Prop) (h : Hp) (s0 : Int32) : Prop :=
  (K s0 h)
set_option maxHeartbeats 4000000 in
theorem wk_X1_size_b20 {X : Fx} {K : Int32 → Hp → Prop} (C : Cx X cX1_size yX1_size.cls 2 3) (Rr : Rx X (Option.some Jvm.ClassFile.FieldType.int) (pI K)) (N : Nm X yX1_size.name) (h : Hp) (s0 : Int32) (w : wp_X1_size_b20 K h s0) : Gd X h 20 [none, none] [vI s0] := by
  unfold wp_X1_size_b20 at w
  exact g_ireturn C Rr dX1_size_20 ⟨_, rfl, w⟩
def wp_X1_size (h : Hp) (x0 : Option Nat) (x1 : Int32) (K : Int32 → Hp → Prop) : Prop :=
  (wp_X1_isMap h x1 (fun r17 h18 => Ex h h18 → ((r17 = 0 → (wp_X1_size_b20 K h18 (-1))) ∧ (¬ r17 = 0 → (∃ a22, x0 = some a22 ∧ (∃ a24, (rf h18 41 a22) = some a24 ∧ (∃ j26, x1 = nI j26 ∧ j26 < ln h18 a24 ∧ (∃ a29, (rf h18 (100 + j26) a24) = some a29 ∧ (wp_X1_size_b20 K h18 (it h18 47 a29))))))))))
set_option maxHeartbeats 4000000 in
theorem wk_X1_size {X : Fx} {K : Int32 → Hp → Prop} (C : Cx X cX1_size yX1_size.cls 2 3) (Rr : Rx X (Option.some Jvm.ClassFile.FieldType.int) (pI K)) (N : Nm X yX1_size.name) (h : Hp) (x0 : Option Nat) (x1 : Int32) (w : wp_X1_size h x0 x1 K) : Gd X h 0 [some (vR [14] x0), some (vI x1)] [] := by
  unfold wp_X1_size at w
  refine g_iload_n 1 rfl C dX1_size_0 rfl ?_
  refine g_callS (As := [vI _]) (st := []) 4 rfl C dX1_size_1 q1157 q1158 q16 q1159 okn_52e77d (by decide) (by decide) (Nat.le_of_ble_eq_true rfl) rfl (ct_X1_isMap C.glob w) (fun r0 h18 p19 x20 _ => ?_)
  obtain ⟨r17, rfl, w⟩ := p19
  have w := w x20
  change Gd _ _ _ _ (vI r17 :: [])
  refine g_if_eq 7 19 rfl C dX1_size_4 rfl (fun u21 => ?_) (fun u21 => ?_)
  · have w := w.1 u21
    refine g_iconst 20 rfl C dX1_size_19 (-1) rfl ?_
    refine g_sub [none, none] [none] rfl rfl ?_
    exact wk_X1_size_b20 C Rr N _ _ w
  · have w := w.2 u21
    refine g_aload_n 8 rfl C dX1_size_7 rfl ?_
    obtain ⟨a22, e23, w⟩ := w
    refine g_getR 11 rfl C dX1_size_8 fl_HashHallModel_12 rfl e23 rfl ?_
    refine g_iload_n 12 rfl C dX1_size_11 rfl ?_
    obtain ⟨a24, e25, w⟩ := w
    obtain ⟨j26, e27, e28, w⟩ := w
    refine g_aaload 52 13 rfl C dX1_size_12 (by decide) e25 e27 e28 ?_
    obtain ⟨a29, e30, w⟩ := w
    refine g_getI 16 rfl C dX1_size_13 fl_HashHallModel_50 rfl e30 rfl ?_
    refine g_goto 20 C dX1_size_16 rfl ?_
    refine g_sub [none, none] [none] rfl rfl ?_
    exact wk_X1_size_b20 C Rr N _ _ w
theorem ct_X1_size {E : Gx} (GE : Glob E) {h : Hp} {x0 : Option Nat} {x1 : Int32} {K : Int32 → Hp → Prop} (w : wp_X1_size h x0 x1 K) : Ct E yX1_size cX1_size 2 (Option.some Jvm.ClassFile.FieldType.int) 3 [vR [14] x0, vI x1] h (pI K) :=
  Ct.of GE (by decide +kernel) (by simp [lvA, t2]) rfl (fun X hX C Rr N => wk_X1_size C Rr N h x0 x1 w)
def wp_X2_clear (h : Hp) (x0 : Option Nat) (K : Hp → Prop) : Prop :=
  (∃ a16, x0 = some a16 ∧ (∀ h18, h18 = wI h 47 a16 0 → (∀ h19, h19 = wI h18 48 a16 (-1) → (∀ h20, h20 = wI h19 49 a16 0 → (∀ h21, h21 = wI h20 50 a16 (-1) → (∀ h22, h22 = wI h21 51 a16 (-1) → (K h22)))))))
set_option maxHeartbeats 4000000 in
theorem wk_X2_clear {X : Fx} {K : Hp → Prop} (C : Cx X cX2_clear yX2_clear.cls 1 2) (Rr : Rx X (Option.none : Option Jvm.ClassFile.FieldType) (pV K)) (N : Nm X yX2_clear.name) (h : Hp) (x0 : Option Nat) (w : wp_X2_clear h x0 K) : Gd X h 0 [some (vR [15] x0)] [] := by
  unfold wp_X2_clear at w
  refine g_aload_n 1 rfl C dX2_clear_0 rfl ?_
  refine g_iconst 2 rfl C dX2_clear_1 0 rfl ?_
  obtain ⟨a16, e17, w⟩ := w
  refine g_putI 5 rfl C dX2_clear_2 fl_HashHallModel_Pairs_35 rfl rfl e17 rfl ?_
  have w := w _ rfl
  refine g_aload_n 6 rfl C dX2_clear_5 rfl ?_
  refine g_iconst 7 rfl C dX2_clear_6 (-1) rfl ?_
  refine g_putI 10 rfl C dX2_clear_7 fl_HashHallModel_Pairs_25 rfl rfl e17 rfl ?_
  have w := w _ rfl
  refine g_aload_n 11 rfl C dX2_clear_10 rfl ?_
  refine g_iconst 12 rfl C dX2_clear_11 0 rfl ?_
  refine g_putI 15 rfl C dX2_clear_12 fl_HashHallModel_Pairs_42 rfl rfl e17 rfl ?_
  have w := w _ rfl
  refine g_aload_n 16 rfl C dX2_clear_15 rfl ?_
  refine g_iconst 17 rfl C dX2_clear_16 (-1) rfl ?_
  refine g_putI 20 rfl C dX2_clear_17 fl_HashHallModel_Pairs_29 rfl rfl e17 rfl ?_
  have w := w _ rfl
  refine g_aload_n 21 rfl C dX2_clear_20 rfl ?_
  refine g_iconst 22 rfl C dX2_clear_21 (-1) rfl ?_
  refine g_putI 25 rfl C dX2_clear_22 fl_HashHallModel_Pairs_32 rfl rfl e17 rfl ?_
  have w := w _ rfl
  exact g_vreturn C Rr dX2_clear_25 ⟨rfl, w⟩
theorem ct_X2_clear {E : Gx} (GE : Glob E) {h : Hp} {x0 : Option Nat} {K : Hp → Prop} (w : wp_X2_clear h x0 K) : Ct E yX2_clear cX2_clear 1 (Option.none : Option Jvm.ClassFile.FieldType) 2 [vR [15] x0] h (pV K) :=
  Ct.of GE (by decide +kernel) (by simp [lvA, t2]) rfl (fun X hX C Rr N => wk_X2_clear C Rr N h x0 w)
def wp_X1_clear (h : Hp) (x0 : Option Nat) (x1 : Int32) (K : Int32 → Hp → Prop) : Prop :=
  (wp_X1_isMap h x1 (fun r31 h32 => Ex h h32 → ((¬ r31 = 0 → (∃ a36, x0 = some a36 ∧ (∃ a38, (rf h32 41 a36) = some a38 ∧ (∃ j40, x1 = nI j40 ∧ j40 < ln h32 a38 ∧ (∃ a43, (rf h32 (100 + j40) a38) = some a43 ∧ (∃ j45, x1 = nI j45 ∧ j45 < ln h32 a38 ∧ (∃ a48, (rf h32 (100 + j45) a38) = some a48 ∧ (wp_X2_clear h32 (rf h32 (100 + j45) a38) (fun h52 => Ex h32 h52 → (K (it h32 47 a43) h52)))))))))) ∧ (r31 = 0 → (K (-1) h32)))))
set_option maxHeartbeats 4000000 in
theorem wk_X1_clear {X : Fx} {K : Int32 → Hp → Prop} (C : Cx X cX1_clear yX1_clear.cls 3 3) (Rr : Rx X (Option.some Jvm.ClassFile.FieldType.int) (pI K)) (N : Nm X yX1_clear.name) (h : Hp) (x0 : Option Nat) (x1 : Int32) (w : wp_X1_clear h x0 x1 K) : Gd X h 0 [some (vR [14] x0), some (vI x1), none] [] := by
  unfold wp_X1_clear at w
  refine g_iload_n 1 rfl C dX1_clear_0 rfl ?_
  refine g_callS (As := [vI _]) (st := []) 4 rfl C dX1_clear_1 q1157 q1158 q16 q1159 okn_52e77d (by decide) (by decide) (Nat.le_of_ble_eq_true rfl) rfl (ct_X1_isMap C.glob w) (fun r0 h32 p33 x34 _ => ?_)
  obtain ⟨r31, rfl, w⟩ := p33
  have w := w x34
  change Gd _ _ _ _ (vI r31 :: [])
  refine g_if_ne 7 9 rfl C dX1_clear_4 rfl (fun u35 => ?_) (fun u35 => ?_)
  · have w := w.1 u35
    refine g_aload_n 10 rfl C dX1_clear_9 rfl ?_
    obtain ⟨a36, e37, w⟩ := w
    refine g_getR 13 rfl C dX1_clear_10 fl_HashHallModel_12 rfl e37 rfl ?_
    refine g_iload_n 14 rfl C dX1_clear_13 rfl ?_
    obtain ⟨a38, e39, w⟩ := w
    obtain ⟨j40, e41, e42, w⟩ := w
    refine g_aaload 52 15 rfl C dX1_clear_14 (by decide) e39 e41 e42 ?_
    obtain ⟨a43, e44, w⟩ := w
    refine g_getI 18 rfl C dX1_clear_15 fl_HashHallModel_50 rfl e44 rfl ?_
    refine g_istore_n 19 rfl C dX1_clear_18 (by decide) (rfl : _ = [some (vR [14] _), some (vI _), some (vI _)]) ?_
    refine g_aload_n 20 rfl C dX1_clear_19 rfl ?_
    refine g_getR 23 rfl C dX1_clear_20 fl_HashHallModel_12 rfl e37 rfl ?_
    refine g_iload_n 24 rfl C dX1_clear_23 rfl ?_
    obtain ⟨j45, e46, e47, w⟩ := w
    refine g_aaload 52 25 rfl C dX1_clear_24 (by decide) e39 e46 e47 ?_
    obtain ⟨a48, e49, w⟩ := w
    refine g_callV (As := []) (T := [15]) (st := []) "HashHallModel$Pairs" 28 rfl C dX1_clear_25 q1248 q1249 q1250 q17 q1251 rfl okn_a0f049 (by decide) (by decide) (Nat.le_of_ble_eq_true rfl) e49 (fun q => tC rfl q) rfl (ct_X2_clear C.glob w) (fun r0 h52 p53 x54 _ => ?_)
    obtain ⟨rfl, w⟩ := p53
    have w := w x54
    change Gd _ _ _ _ []
    refine g_iload_n 29 rfl C dX1_clear_28 rfl ?_
    exact g_ireturn C Rr dX1_clear_29 ⟨_, rfl, w⟩
  · have w := w.2 u35
    refine g_iconst 8 rfl C dX1_clear_7 (-1) rfl ?_
    exact g_ireturn C Rr dX1_clear_8 ⟨_, rfl, w⟩
theorem ct_X1_clear {E : Gx} (GE : Glob E) {h : Hp} {x0 : Option Nat} {x1 : Int32} {K : Int32 → Hp → Prop} (w : wp_X1_clear h x0 x1 K) : Ct E yX1_clear cX1_clear 3 (Option.some Jvm.ClassFile.FieldType.int) 3 [vR [14] x0, vI x1] h (pI K) :=
  Ct.of GE (by decide +kernel) (by simp [lvA, t2]) rfl (fun X hX C Rr N => wk_X1_clear C Rr N h x0 x1 w)
def wp_X1_pour_b44 (K : Int32 → Hp → Prop) (h : Hp)  : Prop :=
  (K (-1) h)
set_option maxHeartbeats 4000000 in
theorem wk_X1_pour_b44 {X : Fx} {K : Int32 → Hp → Prop} (C : Cx X cX1_pour yX1_pour.cls 4 7) (Rr : Rx X (Option.some Jvm.ClassFile.FieldType.int) (pI K)) (N : Nm X yX1_pour.name) (h : Hp)  (w : wp_X1_pour_b44 K h ) : Gd X h 44 [none, none, none, none] [] := by
  unfold wp_X1_pour_b44 at w
  refine g_iconst 45 rfl C dX1_pour_44 (-1) rfl ?_
  exact g_ireturn C Rr dX1_pour_45 ⟨_, rfl, w⟩
def wp_X1_pour_b123 (K : Int32 → Hp → Prop) : Nat → Hp → Option Nat → Int32 → Int32 → Int32 → Prop
  | 0 => fun _ _ _ _ _ => False
  | m9 + 1 => fun h l0 l1 l2 l3 =>
    ((l3 < 0 → (∃ a237, l0 = some a237 ∧ (∃ a239, (rf h 41 a237) = some a239 ∧ (∃ j241, l2 = nI j241 ∧ j241 < ln h a239 ∧ (∃ a244, (rf h (100 + j241) a239) = some a244 ∧ (K (it h 47 a244) h)))))) ∧ (¬ l3 < 0 → (∃ a246, l0 = some a246 ∧ (∃ a248, (rf h 41 a246) = some a248 ∧ (∃ j250, l1 = nI j250 ∧ j250 < ln h a248 ∧ (∃ a253, (rf h (100 + j250) a248) = some a253 ∧ (∃ a255, (rf h 43 a253) = some a255 ∧ (∃ j257, l3 = nI j257 ∧ j257 < ln h a255 ∧ (∃ j260, l1 = nI j260 ∧ j260 < ln h a248 ∧ (∃ a263, (rf h (100 + j260) a248) = some a263 ∧ (∃ a265, (rf h 44 a263) = some a265 ∧ (∃ j267, l3 = nI j267 ∧ j267 < ln h a265 ∧ (wp_X1_put h l0 l2 (it h (100 + j257) a255) (it h (100 + j267) a265) (fun r271 h272 => Ex h h272 → (∃ a275, (rf h272 41 a246) = some a275 ∧ (∃ j277, l1 = nI j277 ∧ j277 < ln h272 a275 ∧ (∃ a280, (rf h272 (100 + j277) a275) = some a280 ∧ (∃ a282, (rf h272 46 a280) = some a282 ∧ (∃ j284, l3 = nI j284 ∧ j284 < ln h272 a282 ∧ (wp_X1_pour_b123 K m9 h272 l0 l1 l2 (it h272 (100 + j284) a282)))))))))))))))))))))
set_option maxHeartbeats 4000000 in
theorem wk_X1_pour_b123 {X : Fx} {K : Int32 → Hp → Prop} (C : Cx X cX1_pour yX1_pour.cls 4 7) (Rr : Rx X (Option.some Jvm.ClassFile.FieldType.int) (pI K)) (N : Nm X yX1_pour.name) : ∀ (n : Nat) (h : Hp) (l0 : Option Nat) (l1 : Int32) (l2 : Int32) (l3 : Int32), wp_X1_pour_b123 K n h l0 l1 l2 l3 → Gd X h 123 [some (vR [14] l0), some (vI l1), some (vI l2), some (vI l3)] [] := by
  intro n
  induction n with
  | zero => intro h l0 l1 l2 l3 w; exact w.elim
  | succ n ih =>
    intro h l0 l1 l2 l3 w
    unfold wp_X1_pour_b123 at w
    refine g_iload_n 124 rfl C dX1_pour_123 rfl ?_
    refine g_if_lt 127 170 rfl C dX1_pour_124 rfl (fun u236 => ?_) (fun u236 => ?_)
    · have w := w.1 u236
      refine g_aload_n 171 rfl C dX1_pour_170 rfl ?_
      obtain ⟨a237, e238, w⟩ := w
      refine g_getR 174 rfl C dX1_pour_171 fl_HashHallModel_12 rfl e238 rfl ?_
      refine g_iload_n 175 rfl C dX1_pour_174 rfl ?_
      obtain ⟨a239, e240, w⟩ := w
      obtain ⟨j241, e242, e243, w⟩ := w
      refine g_aaload 52 176 rfl C dX1_pour_175 (by decide) e240 e242 e243 ?_
      obtain ⟨a244, e245, w⟩ := w
      refine g_getI 179 rfl C dX1_pour_176 fl_HashHallModel_50 rfl e245 rfl ?_
      exact g_ireturn C Rr dX1_pour_179 ⟨_, rfl, w⟩
    · have w := w.2 u236
      refine g_aload_n 128 rfl C dX1_pour_127 rfl ?_
      refine g_iload_n 129 rfl C dX1_pour_128 rfl ?_
      refine g_aload_n 130 rfl C dX1_pour_129 rfl ?_
      obtain ⟨a246, e247, w⟩ := w
      refine g_getR 133 rfl C dX1_pour_130 fl_HashHallModel_12 rfl e247 rfl ?_
      refine g_iload_n 134 rfl C dX1_pour_133 rfl ?_
      obtain ⟨a248, e249, w⟩ := w
      obtain ⟨j250, e251, e252, w⟩ := w
      refine g_aaload 52 135 rfl C dX1_pour_134 (by decide) e249 e251 e252 ?_
      obtain ⟨a253, e254, w⟩ := w
      refine g_getR 138 rfl C dX1_pour_135 fl_HashHallModel_60 rfl e254 rfl ?_
      refine g_iload_n 139 rfl C dX1_pour_138 rfl ?_
      obtain ⟨a255, e256, w⟩ := w
      obtain ⟨j257, e258, e259, w⟩ := w
      refine g_iaload 140 rfl C dX1_pour_139 e256 e258 e259 ?_
      refine g_aload_n 141 rfl C dX1_pour_140 rfl ?_
      refine g_getR 144 rfl C dX1_pour_141 fl_HashHallModel_12 rfl e247 rfl ?_
      refine g_iload_n 145 rfl C dX1_pour_144 rfl ?_
      obtain ⟨j260, e261, e262, w⟩ := w
      refine g_aaload 52 146 rfl C dX1_pour_145 (by decide) e249 e261 e262 ?_
      obtain ⟨a263, e264, w⟩ := w
      refine g_getR 149 rfl C dX1_pour_146 fl_HashHallModel_36 rfl e264 rfl ?_
      refine g_iload_n 150 rfl C dX1_pour_149 rfl ?_
      obtain ⟨a265, e266, w⟩ := w
      obtain ⟨j267, e268, e269, w⟩ := w
      refine g_iaload 151 rfl C dX1_pour_150 e266 e268 e269 ?_
      refine g_callV (As := [vI _, vI _, vI _]) (T := [14]) (st := []) "HashHallModel" 154 rfl C dX1_pour_151 q1256 q1154 q1155 q16 q1156 rfl okn_f555d9 (by decide) (by decide) (Nat.le_of_ble_eq_true rfl) e247 (fun q => tC rfl q) rfl (ct_X1_put C.glob w) (fun r0 h272 p273 x274 _ => ?_)
      obtain ⟨r271, rfl, w⟩ := p273
      have w := w x274
      change Gd _ _ _ _ (vL r271 :: [])
      refine g_pop2_2 155 rfl C dX1_pour_154 rfl ?_
      refine g_aload_n 156 rfl C dX1_pour_155 rfl ?_
      refine g_getR 159 rfl C dX1_pour_156 fl_HashHallModel_12 rfl e247 rfl ?_
      refine g_iload_n 160 rfl C dX1_pour_159 rfl ?_
      obtain ⟨a275, e276, w⟩ := w
      obtain ⟨j277, e278, e279, w⟩ := w
      refine g_aaload 52 161 rfl C dX1_pour_160 (by decide) e276 e278 e279 ?_
      obtain ⟨a280, e281, w⟩ := w
      refine g_getR 164 rfl C dX1_pour_161 fl_HashHallModel_70 rfl e281 rfl ?_
      refine g_iload_n 165 rfl C dX1_pour_164 rfl ?_
      obtain ⟨a282, e283, w⟩ := w
      obtain ⟨j284, e285, e286, w⟩ := w
      refine g_iaload 166 rfl C dX1_pour_165 e283 e285 e286 ?_
      refine g_istore_n 167 rfl C dX1_pour_166 (by decide) (rfl : _ = [some (vR [14] _), some (vI _), some (vI _), some (vI _)]) ?_
      refine g_goto 123 C dX1_pour_167 rfl ?_
      refine g_sub [some none, some none, some none, some none] [] rfl rfl ?_
      exact ih _ _ _ _ _ w
def wp_X1_pour_b113 (K : Int32 → Hp → Prop) (h : Hp) (l0 : Option Nat) (l1 : Int32) (l2 : Int32) : Prop :=
  (∃ a186, l0 = some a186 ∧ (∃ a188, (rf h 41 a186) = some a188 ∧ (∃ j190, l1 = nI j190 ∧ j190 < ln h a188 ∧ (∃ a193, (rf h (100 + j190) a188) = some a193 ∧ (∃ n, wp_X1_pour_b123 K n h l0 l1 l2 (it h 50 a193))))))
set_option maxHeartbeats 4000000 in
theorem wk_X1_pour_b113 {X : Fx} {K : Int32 → Hp → Prop} (C : Cx X cX1_pour yX1_pour.cls 4 7) (Rr : Rx X (Option.some Jvm.ClassFile.FieldType.int) (pI K)) (N : Nm X yX1_pour.name) (h : Hp) (l0 : Option Nat) (l1 : Int32) (l2 : Int32) (w : wp_X1_pour_b113 K h l0 l1 l2) : Gd X h 113 [some (vR [14] l0), some (vI l1), some (vI l2), none] [] := by
  unfold wp_X1_pour_b113 at w
  refine g_aload_n 114 rfl C dX1_pour_113 rfl ?_
  obtain ⟨a186, e187, w⟩ := w
  refine g_getR 117 rfl C dX1_pour_114 fl_HashHallModel_12 rfl e187 rfl ?_
  refine g_iload_n 118 rfl C dX1_pour_117 rfl ?_
  obtain ⟨a188, e189, w⟩ := w
  obtain ⟨j190, e191, e192, w⟩ := w
  refine g_aaload 52 119 rfl C dX1_pour_118 (by decide) e189 e191 e192 ?_
  obtain ⟨a193, e194, w⟩ := w
  refine g_getI 122 rfl C dX1_pour_119 fl_HashHallModel_63 rfl e194 rfl ?_
  refine g_istore_n 123 rfl C dX1_pour_122 (by decide) (rfl : _ = [some (vR [14] _), some (vI _), some (vI _), some (vI _)]) ?_
  refine g_sub [some none, some none, some none, some none] [] rfl rfl ?_
  obtain ⟨n9, w⟩ := w
  exact wk_X1_pour_b123 C Rr N n9 _ _ _ _ _ w
def wp_X1_pour_b59 (K : Int32 → Hp → Prop) : Nat → Hp → Option Nat → Int32 → Int32 → Int32 → Prop
  | 0 => fun _ _ _ _ _ => False
  | m9 + 1 => fun h l0 l1 l2 l3 =>
    (∃ a195, l0 = some a195 ∧ (∃ a197, (rf h 41 a195) = some a197 ∧ (∃ j199, 0 = nI j199 ∧ j199 < ln h a197 ∧ (∃ a202, (rf h (100 + j199) a197) = some a202 ∧ (((it h 47 a202) ≤ l3 → (wp_X1_pour_b113 K h l0 l1 l2)) ∧ (¬ (it h 47 a202) ≤ l3 → (∃ j205, 1 = nI j205 ∧ j205 < ln h a197 ∧ (∃ j208, 0 = nI j208 ∧ j208 < ln h a197 ∧ (∃ a211, (rf h (100 + j208) a197) = some a211 ∧ (∃ j213, 0 = nI j213 ∧ j213 < ln h a197 ∧ (∃ a216, (rf h (100 + j213) a197) = some a216 ∧ (∃ a218, (rf h 42 a216) = some a218 ∧ (∃ j220, l3 = nI j220 ∧ j220 < ln h a218 ∧ (∃ a223, (rf h 43 a211) = some a223 ∧ (∃ j225, (it h (100 + j220) a218) = nI j225 ∧ j225 < ln h a223 ∧ (∃ a228, (rf h (100 + j205) a197) = some a228 ∧ (wp_X2_find h (rf h (100 + j205) a197) (it h (100 + j225) a223) (fun r231 h232 => Ex h h232 → ((0 ≤ r231 → (wp_X1_pour_b59 K m9 h232 l0 l1 l2 (l3 + 1))) ∧ (¬ 0 ≤ r231 → (K (-1) h232)))))))))))))))))))))
set_option maxHeartbeats 4000000 in
theorem wk_X1_pour_b59 {X : Fx} {K : Int32 → Hp → Prop} (C : Cx X cX1_pour yX1_pour.cls 4 7) (Rr : Rx X (Option.some Jvm.ClassFile.FieldType.int) (pI K)) (N : Nm X yX1_pour.name) : ∀ (n : Nat) (h : Hp) (l0 : Option Nat) (l1 : Int32) (l2 : Int32) (l3 : Int32), wp_X1_pour_b59 K n h l0 l1 l2 l3 → Gd X h 59 [some (vR [14] l0), some (vI l1), some (vI l2), some (vI l3)] [] := by
  intro n
  induction n with
  | zero => intro h l0 l1 l2 l3 w; exact w.elim
  | succ n ih =>
    intro h l0 l1 l2 l3 w
    unfold wp_X1_pour_b59 at w
    refine g_iload_n 60 rfl C dX1_pour_59 rfl ?_
    refine g_aload_n 61 rfl C dX1_pour_60 rfl ?_
    obtain ⟨a195, e196, w⟩ := w
    refine g_getR 64 rfl C dX1_pour_61 fl_HashHallModel_12 rfl e196 rfl ?_
    refine g_iconst 65 rfl C dX1_pour_64 0 rfl ?_
    obtain ⟨a197, e198, w⟩ := w
    obtain ⟨j199, e200, e201, w⟩ := w
    refine g_aaload 52 66 rfl C dX1_pour_65 (by decide) e198 e200 e201 ?_
    obtain ⟨a202, e203, w⟩ := w
    refine g_getI 69 rfl C dX1_pour_66 fl_HashHallModel_50 rfl e203 rfl ?_
    refine g_icmp_ge 72 113 rfl C dX1_pour_69 rfl (fun u204 => ?_) (fun u204 => ?_)
    · have w := w.1 u204
      refine g_sub [some none, some none, some none, none] [] rfl rfl ?_
      exact wk_X1_pour_b113 C Rr N _ _ _ _ w
    · have w := w.2 u204
      refine g_aload_n 73 rfl C dX1_pour_72 rfl ?_
      refine g_getR 76 rfl C dX1_pour_73 fl_HashHallModel_12 rfl e196 rfl ?_
      refine g_iconst 77 rfl C dX1_pour_76 1 rfl ?_
      obtain ⟨j205, e206, e207, w⟩ := w
      refine g_aaload 52 78 rfl C dX1_pour_77 (by decide) e198 e206 e207 ?_
      refine g_aload_n 79 rfl C dX1_pour_78 rfl ?_
      refine g_getR 82 rfl C dX1_pour_79 fl_HashHallModel_12 rfl e196 rfl ?_
      refine g_iconst 83 rfl C dX1_pour_82 0 rfl ?_
      obtain ⟨j208, e209, e210, w⟩ := w
      refine g_aaload 52 84 rfl C dX1_pour_83 (by decide) e198 e209 e210 ?_
      obtain ⟨a211, e212, w⟩ := w
      refine g_getR 87 rfl C dX1_pour_84 fl_HashHallModel_60 rfl e212 rfl ?_
      refine g_aload_n 88 rfl C dX1_pour_87 rfl ?_
      refine g_getR 91 rfl C dX1_pour_88 fl_HashHallModel_12 rfl e196 rfl ?_
      refine g_iconst 92 rfl C dX1_pour_91 0 rfl ?_
      obtain ⟨j213, e214, e215, w⟩ := w
      refine g_aaload 52 93 rfl C dX1_pour_92 (by decide) e198 e214 e215 ?_
      obtain ⟨a216, e217, w⟩ := w
      refine g_getR 96 rfl C dX1_pour_93 fl_HashHallModel_54 rfl e217 rfl ?_
      refine g_iload_n 97 rfl C dX1_pour_96 rfl ?_
      obtain ⟨a218, e219, w⟩ := w
      obtain ⟨j220, e221, e222, w⟩ := w
      refine g_iaload 98 rfl C dX1_pour_97 e219 e221 e222 ?_
      obtain ⟨a223, e224, w⟩ := w
      obtain ⟨j225, e226, e227, w⟩ := w
      refine g_iaload 99 rfl C dX1_pour_98 e224 e226 e227 ?_
      obtain ⟨a228, e229, w⟩ := w
      refine g_callV (As := [vI _]) (T := [15]) (st := []) "HashHallModel$Pairs" 102 rfl C dX1_pour_99 q1161 q1162 q1163 q17 q1164 rfl okn_9f7ea2 (by decide) (by decide) (Nat.le_of_ble_eq_true rfl) e229 (fun q => tC rfl q) rfl (ct_X2_find C.glob w) (fun r0 h232 p233 x234 _ => ?_)
      obtain ⟨r231, rfl, w⟩ := p233
      have w := w x234
      change Gd _ _ _ _ (vI r231 :: [])
      refine g_if_ge 105 107 rfl C dX1_pour_102 rfl (fun u235 => ?_) (fun u235 => ?_)
      · have w := w.1 u235
        refine g_iinc 110 rfl C dX1_pour_107 rfl _ rfl (by decide) (rfl : _ = [some (vR [14] _), some (vI _), some (vI _), some (vI _)]) ?_
        refine g_goto 59 C dX1_pour_110 rfl ?_
        refine g_sub [some none, some none, some none, some none] [] rfl rfl ?_
        exact ih _ _ _ _ _ w
      · have w := w.2 u235
        refine g_iconst 106 rfl C dX1_pour_105 (-1) rfl ?_
        exact g_ireturn C Rr dX1_pour_106 ⟨_, rfl, w⟩
def wp_X1_pour (h : Hp) (x0 : Option Nat) (x1 : Int32) (x2 : Int32) (K : Int32 → Hp → Prop) : Prop :=
  (wp_X1_isMap h x1 (fun r157 h158 => Ex h h158 → ((r157 = 0 → (wp_X1_pour_b44 K h158)) ∧ (¬ r157 = 0 → (wp_X1_isMap h158 x2 (fun r163 h164 => Ex h158 h164 → ((r163 = 0 → (wp_X1_pour_b44 K h164)) ∧ (¬ r163 = 0 → ((x1 = x2 → (wp_X1_pour_b44 K h164)) ∧ (¬ x1 = x2 → (∃ a169, x0 = some a169 ∧ (∃ a171, (rf h164 41 a169) = some a171 ∧ (∃ j173, x1 = nI j173 ∧ j173 < ln h164 a171 ∧ (∃ a176, (rf h164 (100 + j173) a171) = some a176 ∧ (∃ j178, x2 = nI j178 ∧ j178 < ln h164 a171 ∧ (∃ a181, (rf h164 (100 + j178) a171) = some a181 ∧ ((((it h164 47 a176) + (it h164 47 a181)) ≤ 1400 → ((¬ x1 = 0 → (wp_X1_pour_b113 K h164 x0 x1 x2)) ∧ (x1 = 0 → ((x2 = 1 → (∃ n, wp_X1_pour_b59 K n h164 x0 x1 x2 0)) ∧ (¬ x2 = 1 → (K (-1) h164)))))) ∧ (¬ ((it h164 47 a176) + (it h164 47 a181)) ≤ 1400 → (wp_X1_pour_b44 K h164)))))))))))))))))))
set_option maxHeartbeats 4000000 in
theorem wk_X1_pour {X : Fx} {K : Int32 → Hp → Prop} (C : Cx X cX1_pour yX1_pour.cls 4 7) (Rr : Rx X (Option.some Jvm.ClassFile.FieldType.int) (pI K)) (N : Nm X yX1_pour.name) (h : Hp) (x0 : Option Nat) (x1 : Int32) (x2 : Int32) (w : wp_X1_pour h x0 x1 x2 K) : Gd X h 0 [some (vR [14] x0), some (vI x1), some (vI x2), none] [] := by
  unfold wp_X1_pour at w
  refine g_iload_n 1 rfl C dX1_pour_0 rfl ?_
  refine g_callS (As := [vI _]) (st := []) 4 rfl C dX1_pour_1 q1157 q1158 q16 q1159 okn_52e77d (by decide) (by decide) (Nat.le_of_ble_eq_true rfl) rfl (ct_X1_isMap C.glob w) (fun r0 h158 p159 x160 _ => ?_)
  obtain ⟨r157, rfl, w⟩ := p159
  have w := w x160
  change Gd _ _ _ _ (vI r157 :: [])
  refine g_if_eq 7 44 rfl C dX1_pour_4 rfl (fun u161 => ?_) (fun u161 => ?_)
  · have w := w.1 u161
    refine g_sub [none, none, none, none] [] rfl rfl ?_
    exact wk_X1_pour_b44 C Rr N _ w
  · have w := w.2 u161
    refine g_iload_n 8 rfl C dX1_pour_7 rfl ?_
    refine g_callS (As := [vI _]) (st := []) 11 rfl C dX1_pour_8 q1157 q1158 q16 q1159 okn_52e77d (by decide) (by decide) (Nat.le_of_ble_eq_true rfl) rfl (ct_X1_isMap C.glob w) (fun r0 h164 p165 x166 _ => ?_)
    obtain ⟨r163, rfl, w⟩ := p165
    have w := w x166
    change Gd _ _ _ _ (vI r163 :: [])
    refine g_if_eq 14 44 rfl C dX1_pour_11 rfl (fun u167 => ?_) (fun u167 => ?_)
    · have w := w.1 u167
      refine g_sub [none, none, none, none] [] rfl rfl ?_
      exact wk_X1_pour_b44 C Rr N _ w
    · have w := w.2 u167
      refine g_iload_n 15 rfl C dX1_pour_14 rfl ?_
      refine g_iload_n 16 rfl C dX1_pour_15 rfl ?_
      refine g_icmp_eq 19 44 rfl C dX1_pour_16 rfl (fun u168 => ?_) (fun u168 => ?_)
      · have w := w.1 u168
        refine g_sub [none, none, none, none] [] rfl rfl ?_
        exact wk_X1_pour_b44 C Rr N _ w
      · have w := w.2 u168
        refine g_aload_n 20 rfl C dX1_pour_19 rfl ?_
        obtain ⟨a169, e170, w⟩ := w
        refine g_getR 23 rfl C dX1_pour_20 fl_HashHallModel_12 rfl e170 rfl ?_
        refine g_iload_n 24 rfl C dX1_pour_23 rfl ?_
        obtain ⟨a171, e172, w⟩ := w
        obtain ⟨j173, e174, e175, w⟩ := w
        refine g_aaload 52 25 rfl C dX1_pour_24 (by decide) e172 e174 e175 ?_
        obtain ⟨a176, e177, w⟩ := w
        refine g_getI 28 rfl C dX1_pour_25 fl_HashHallModel_50 rfl e177 rfl ?_
        refine g_aload_n 29 rfl C dX1_pour_28 rfl ?_
        refine g_getR 32 rfl C dX1_pour_29 fl_HashHallModel_12 rfl e170 rfl ?_
        refine g_iload_n 33 rfl C dX1_pour_32 rfl ?_
        obtain ⟨j178, e179, e180, w⟩ := w
        refine g_aaload 52 34 rfl C dX1_pour_33 (by decide) e172 e179 e180 ?_
        obtain ⟨a181, e182, w⟩ := w
        refine g_getI 37 rfl C dX1_pour_34 fl_HashHallModel_50 rfl e182 rfl ?_
        refine g_iadd 38 rfl C dX1_pour_37 ?_
        refine g_sipush 41 rfl C dX1_pour_38 1400 (by decide) ?_
        refine g_icmp_le 44 46 rfl C dX1_pour_41 rfl (fun u183 => ?_) (fun u183 => ?_)
        · have w := w.1 u183
          refine g_iload_n 47 rfl C dX1_pour_46 rfl ?_
          refine g_if_ne 50 113 rfl C dX1_pour_47 rfl (fun u184 => ?_) (fun u184 => ?_)
          · have w := w.1 u184
            refine g_sub [some none, some none, some none, none] [] rfl rfl ?_
            exact wk_X1_pour_b113 C Rr N _ _ _ _ w
          · have w := w.2 u184
            refine g_iload_n 51 rfl C dX1_pour_50 rfl ?_
            refine g_iconst 52 rfl C dX1_pour_51 1 rfl ?_
            refine g_icmp_eq 55 57 rfl C dX1_pour_52 rfl (fun u185 => ?_) (fun u185 => ?_)
            · have w := w.1 u185
              refine g_iconst 58 rfl C dX1_pour_57 0 rfl ?_
              refine g_istore_n 59 rfl C dX1_pour_58 (by decide) (rfl : _ = [some (vR [14] _), some (vI _), some (vI _), some (vI _)]) ?_
              refine g_sub [some none, some none, some none, some none] [] rfl rfl ?_
              obtain ⟨n9, w⟩ := w
              exact wk_X1_pour_b59 C Rr N n9 _ _ _ _ _ w
            · have w := w.2 u185
              refine g_iconst 56 rfl C dX1_pour_55 (-1) rfl ?_
              exact g_ireturn C Rr dX1_pour_56 ⟨_, rfl, w⟩
        · have w := w.2 u183
          refine g_sub [none, none, none, none] [] rfl rfl ?_
          exact wk_X1_pour_b44 C Rr N _ w
theorem ct_X1_pour {E : Gx} (GE : Glob E) {h : Hp} {x0 : Option Nat} {x1 : Int32} {x2 : Int32} {K : Int32 → Hp → Prop} (w : wp_X1_pour h x0 x1 x2 K) : Ct E yX1_pour cX1_pour 4 (Option.some Jvm.ClassFile.FieldType.int) 7 [vR [14] x0, vI x1, vI x2] h (pI K) :=
  Ct.of GE (by decide +kernel) (by simp [lvA, t2]) rfl (fun X hX C Rr N => wk_X1_pour C Rr N h x0 x1 x2 w)
def wp_X1_entry_b19 (K : Int64 → Hp → Prop) (h : Hp)  : Prop :=
  (K (1099511627777 : Int64) h)
set_option maxHeartbeats 4000000 in
theorem wk_X1_entry_b19 {X : Fx} {K : Int64 → Hp → Prop} (C : Cx X cX1_entry yX1_entry.cls 6 2) (Rr : Rx X (Option.some Jvm.ClassFile.FieldType.long) (pJ K)) (N : Nm X yX1_entry.name) (h : Hp)  (w : wp_X1_entry_b19 K h ) : Gd X h 19 [none, none, none, none, none, none] [] := by
  unfold wp_X1_entry_b19 at w
  refine g_ldc2 22 rfl C dX1_entry_19 q1160 ?_
  exact g_lreturn C Rr dX1_entry_22 ⟨_, rfl, w⟩
def wp_X1_entry_b40 (K : Int64 → Hp → Prop) (h : Hp)  : Prop :=
  (K (1099511627776 : Int64) h)
set_option maxHeartbeats 4000000 in
theorem wk_X1_entry_b40 {X : Fx} {K : Int64 → Hp → Prop} (C : Cx X cX1_entry yX1_entry.cls 6 2) (Rr : Rx X (Option.some Jvm.ClassFile.FieldType.long) (pJ K)) (N : Nm X yX1_entry.name) (h : Hp)  (w : wp_X1_entry_b40 K h ) : Gd X h 40 [none, none, none, none, none, none] [] := by
  unfold wp_X1_entry_b40 at w
  refine g_ldc2 43 rfl C dX1_entry_40 q1198 ?_
  exact g_lreturn C Rr dX1_entry_43 ⟨_, rfl, w⟩
def wp_X1_entry_b117 (K : Int64 → Hp → Prop) (h : Hp) (s0 : Int64) : Prop :=
  (K s0 h)
set_option maxHeartbeats 4000000 in
theorem wk_X1_entry_b117 {X : Fx} {K : Int64 → Hp → Prop} (C : Cx X cX1_entry yX1_entry.cls 6 2) (Rr : Rx X (Option.some Jvm.ClassFile.FieldType.long) (pJ K)) (N : Nm X yX1_entry.name) (h : Hp) (s0 : Int64) (w : wp_X1_entry_b117 K h s0) : Gd X h 117 [none, none, none, none, none, none] [vL s0] := by
  unfold wp_X1_entry_b117 at w
  exact g_lreturn C Rr dX1_entry_117 ⟨_, rfl, w⟩
def wp_X1_entry_b58 (K : Int64 → Hp → Prop) : Nat → Hp → Option Nat → Int32 → Int32 → Int32 → Int32 → Int32 → Prop
  | 0 => fun _ _ _ _ _ _ _ => False
  | m9 + 1 => fun h l0 l1 l2 l3 l4 l5 =>
    ((l2 ≤ l5 → ((¬ l3 = 0 → (∃ a73, l0 = some a73 ∧ (∃ a75, (rf h 41 a73) = some a75 ∧ (∃ j77, l1 = nI j77 ∧ j77 < ln h a75 ∧ (∃ a80, (rf h (100 + j77) a75) = some a80 ∧ (∃ a82, (rf h 44 a80) = some a82 ∧ (∃ j84, l4 = nI j84 ∧ j84 < ln h a82 ∧ (wp_X1_entry_b117 K h (((it h (100 + j84) a82) : Int32).toInt64))))))))) ∧ (l3 = 0 → (∃ a87, l0 = some a87 ∧ (∃ a89, (rf h 41 a87) = some a89 ∧ (∃ j91, l1 = nI j91 ∧ j91 < ln h a89 ∧ (∃ a94, (rf h (100 + j91) a89) = some a94 ∧ (∃ a96, (rf h 43 a94) = some a96 ∧ (∃ j98, l4 = nI j98 ∧ j98 < ln h a96 ∧ (wp_X1_entry_b117 K h (((it h (100 + j98) a96) : Int32).toInt64))))))))))) ∧ (¬ l2 ≤ l5 → (∃ a101, l0 = some a101 ∧ (∃ a103, (rf h 41 a101) = some a103 ∧ (∃ j105, l1 = nI j105 ∧ j105 < ln h a103 ∧ (∃ a108, (rf h (100 + j105) a103) = some a108 ∧ (∃ a110, (rf h 46 a108) = some a110 ∧ (∃ j112, l4 = nI j112 ∧ j112 < ln h a110 ∧ (wp_X1_entry_b58 K m9 h l0 l1 l2 l3 (it h (100 + j112) a110) (l5 + 1))))))))))
set_option maxHeartbeats 4000000 in
theorem wk_X1_entry_b58 {X : Fx} {K : Int64 → Hp → Prop} (C : Cx X cX1_entry yX1_entry.cls 6 2) (Rr : Rx X (Option.some Jvm.ClassFile.FieldType.long) (pJ K)) (N : Nm X yX1_entry.name) : ∀ (n : Nat) (h : Hp) (l0 : Option Nat) (l1 : Int32) (l2 : Int32) (l3 : Int32) (l4 : Int32) (l5 : Int32), wp_X1_entry_b58 K n h l0 l1 l2 l3 l4 l5 → Gd X h 58 [some (vR [14] l0), some (vI l1), some (vI l2), some (vI l3), some (vI l4), some (vI l5)] [] := by
  intro n
  induction n with
  | zero => intro h l0 l1 l2 l3 l4 l5 w; exact w.elim
  | succ n ih =>
    intro h l0 l1 l2 l3 l4 l5 w
    unfold wp_X1_entry_b58 at w
    refine g_iload 60 rfl C dX1_entry_58 rfl ?_
    refine g_iload_n 61 rfl C dX1_entry_60 rfl ?_
    refine g_icmp_ge 64 84 rfl C dX1_entry_61 rfl (fun u71 => ?_) (fun u71 => ?_)
    · have w := w.1 u71
      refine g_iload_n 85 rfl C dX1_entry_84 rfl ?_
      refine g_if_ne 88 104 rfl C dX1_entry_85 rfl (fun u72 => ?_) (fun u72 => ?_)
      · have w := w.1 u72
        refine g_aload_n 105 rfl C dX1_entry_104 rfl ?_
        obtain ⟨a73, e74, w⟩ := w
        refine g_getR 108 rfl C dX1_entry_105 fl_HashHallModel_12 rfl e74 rfl ?_
        refine g_iload_n 109 rfl C dX1_entry_108 rfl ?_
        obtain ⟨a75, e76, w⟩ := w
        obtain ⟨j77, e78, e79, w⟩ := w
        refine g_aaload 52 110 rfl C dX1_entry_109 (by decide) e76 e78 e79 ?_
        obtain ⟨a80, e81, w⟩ := w
        refine g_getR 113 rfl C dX1_entry_110 fl_HashHallModel_36 rfl e81 rfl ?_
        refine g_iload 115 rfl C dX1_entry_113 rfl ?_
        obtain ⟨a82, e83, w⟩ := w
        obtain ⟨j84, e85, e86, w⟩ := w
        refine g_iaload 116 rfl C dX1_entry_115 e83 e85 e86 ?_
        refine g_i2l 117 rfl C dX1_entry_116 ?_
        refine g_sub [none, none, none, none, none, none] [none] rfl rfl ?_
        exact wk_X1_entry_b117 C Rr N _ _ w
      · have w := w.2 u72
        refine g_aload_n 89 rfl C dX1_entry_88 rfl ?_
        obtain ⟨a87, e88, w⟩ := w
        refine g_getR 92 rfl C dX1_entry_89 fl_HashHallModel_12 rfl e88 rfl ?_
        refine g_iload_n 93 rfl C dX1_entry_92 rfl ?_
        obtain ⟨a89, e90, w⟩ := w
        obtain ⟨j91, e92, e93, w⟩ := w
        refine g_aaload 52 94 rfl C dX1_entry_93 (by decide) e90 e92 e93 ?_
        obtain ⟨a94, e95, w⟩ := w
        refine g_getR 97 rfl C dX1_entry_94 fl_HashHallModel_60 rfl e95 rfl ?_
        refine g_iload 99 rfl C dX1_entry_97 rfl ?_
        obtain ⟨a96, e97, w⟩ := w
        obtain ⟨j98, e99, e100, w⟩ := w
        refine g_iaload 100 rfl C dX1_entry_99 e97 e99 e100 ?_
        refine g_i2l 101 rfl C dX1_entry_100 ?_
        refine g_goto 117 C dX1_entry_101 rfl ?_
        refine g_sub [none, none, none, none, none, none] [none] rfl rfl ?_
        exact wk_X1_entry_b117 C Rr N _ _ w
    · have w := w.2 u71
      refine g_aload_n 65 rfl C dX1_entry_64 rfl ?_
      obtain ⟨a101, e102, w⟩ := w
      refine g_getR 68 rfl C dX1_entry_65 fl_HashHallModel_12 rfl e102 rfl ?_
      refine g_iload_n 69 rfl C dX1_entry_68 rfl ?_
      obtain ⟨a103, e104, w⟩ := w
      obtain ⟨j105, e106, e107, w⟩ := w
      refine g_aaload 52 70 rfl C dX1_entry_69 (by decide) e104 e106 e107 ?_
      obtain ⟨a108, e109, w⟩ := w
      refine g_getR 73 rfl C dX1_entry_70 fl_HashHallModel_70 rfl e109 rfl ?_
      refine g_iload 75 rfl C dX1_entry_73 rfl ?_
      obtain ⟨a110, e111, w⟩ := w
      obtain ⟨j112, e113, e114, w⟩ := w
      refine g_iaload 76 rfl C dX1_entry_75 e111 e113 e114 ?_
      refine g_istore 78 rfl C dX1_entry_76 (by decide) (rfl : _ = [some (vR [14] _), some (vI _), some (vI _), some (vI _), some (vI _), some (vI _)]) ?_
      refine g_iinc 81 rfl C dX1_entry_78 rfl _ rfl (by decide) (rfl : _ = [some (vR [14] _), some (vI _), some (vI _), some (vI _), some (vI _), some (vI _)]) ?_
      refine g_goto 58 C dX1_entry_81 rfl ?_
      refine g_sub [some none, some none, some none, some none, some none, some none] [] rfl rfl ?_
      exact ih _ _ _ _ _ _ _ w
def wp_X1_entry_b23 (K : Int64 → Hp → Prop) (h : Hp) (l0 : Option Nat) (l1 : Int32) (l2 : Int32) (l3 : Int32) : Prop :=
  ((l2 < 0 → (wp_X1_entry_b40 K h)) ∧ (¬ l2 < 0 → (∃ a116, l0 = some a116 ∧ (∃ a118, (rf h 41 a116) = some a118 ∧ (∃ j120, l1 = nI j120 ∧ j120 < ln h a118 ∧ (∃ a123, (rf h (100 + j120) a118) = some a123 ∧ ((l2 < (it h 47 a123) → (∃ j126, l1 = nI j126 ∧ j126 < ln h a118 ∧ (∃ a129, (rf h (100 + j126) a118) = some a129 ∧ (∃ n, wp_X1_entry_b58 K n h l0 l1 l2 l3 (it h 50 a129) 0)))) ∧ (¬ l2 < (it h 47 a123) → (wp_X1_entry_b40 K h)))))))))
set_option maxHeartbeats 4000000 in
theorem wk_X1_entry_b23 {X : Fx} {K : Int64 → Hp → Prop} (C : Cx X cX1_entry yX1_entry.cls 6 2) (Rr : Rx X (Option.some Jvm.ClassFile.FieldType.long) (pJ K)) (N : Nm X yX1_entry.name) (h : Hp) (l0 : Option Nat) (l1 : Int32) (l2 : Int32) (l3 : Int32) (w : wp_X1_entry_b23 K h l0 l1 l2 l3) : Gd X h 23 [some (vR [14] l0), some (vI l1), some (vI l2), some (vI l3), none, none] [] := by
  unfold wp_X1_entry_b23 at w
  refine g_iload_n 24 rfl C dX1_entry_23 rfl ?_
  refine g_if_lt 27 40 rfl C dX1_entry_24 rfl (fun u115 => ?_) (fun u115 => ?_)
  · have w := w.1 u115
    refine g_sub [none, none, none, none, none, none] [] rfl rfl ?_
    exact wk_X1_entry_b40 C Rr N _ w
  · have w := w.2 u115
    refine g_iload_n 28 rfl C dX1_entry_27 rfl ?_
    refine g_aload_n 29 rfl C dX1_entry_28 rfl ?_
    obtain ⟨a116, e117, w⟩ := w
    refine g_getR 32 rfl C dX1_entry_29 fl_HashHallModel_12 rfl e117 rfl ?_
    refine g_iload_n 33 rfl C dX1_entry_32 rfl ?_
    obtain ⟨a118, e119, w⟩ := w
    obtain ⟨j120, e121, e122, w⟩ := w
    refine g_aaload 52 34 rfl C dX1_entry_33 (by decide) e119 e121 e122 ?_
    obtain ⟨a123, e124, w⟩ := w
    refine g_getI 37 rfl C dX1_entry_34 fl_HashHallModel_50 rfl e124 rfl ?_
    refine g_icmp_lt 40 44 rfl C dX1_entry_37 rfl (fun u125 => ?_) (fun u125 => ?_)
    · have w := w.1 u125
      refine g_aload_n 45 rfl C dX1_entry_44 rfl ?_
      refine g_getR 48 rfl C dX1_entry_45 fl_HashHallModel_12 rfl e117 rfl ?_
      refine g_iload_n 49 rfl C dX1_entry_48 rfl ?_
      obtain ⟨j126, e127, e128, w⟩ := w
      refine g_aaload 52 50 rfl C dX1_entry_49 (by decide) e119 e127 e128 ?_
      obtain ⟨a129, e130, w⟩ := w
      refine g_getI 53 rfl C dX1_entry_50 fl_HashHallModel_63 rfl e130 rfl ?_
      refine g_istore 55 rfl C dX1_entry_53 (by decide) (rfl : _ = [some (vR [14] _), some (vI _), some (vI _), some (vI _), some (vI _), none]) ?_
      refine g_iconst 56 rfl C dX1_entry_55 0 rfl ?_
      refine g_istore 58 rfl C dX1_entry_56 (by decide) (rfl : _ = [some (vR [14] _), some (vI _), some (vI _), some (vI _), some (vI _), some (vI _)]) ?_
      refine g_sub [some none, some none, some none, some none, some none, some none] [] rfl rfl ?_
      obtain ⟨n9, w⟩ := w
      exact wk_X1_entry_b58 C Rr N n9 _ _ _ _ _ _ _ w
    · have w := w.2 u125
      refine g_sub [none, none, none, none, none, none] [] rfl rfl ?_
      exact wk_X1_entry_b40 C Rr N _ w
def wp_X1_entry_b10 (K : Int64 → Hp → Prop) (h : Hp) (l0 : Option Nat) (l1 : Int32) (l2 : Int32) (l3 : Int32) : Prop :=
  ((l3 = 0 → (wp_X1_entry_b23 K h l0 l1 l2 l3)) ∧ (¬ l3 = 0 → ((l3 = 1 → (wp_X1_entry_b23 K h l0 l1 l2 l3)) ∧ (¬ l3 = 1 → (wp_X1_entry_b19 K h)))))
set_option maxHeartbeats 4000000 in
theorem wk_X1_entry_b10 {X : Fx} {K : Int64 → Hp → Prop} (C : Cx X cX1_entry yX1_entry.cls 6 2) (Rr : Rx X (Option.some Jvm.ClassFile.FieldType.long) (pJ K)) (N : Nm X yX1_entry.name) (h : Hp) (l0 : Option Nat) (l1 : Int32) (l2 : Int32) (l3 : Int32) (w : wp_X1_entry_b10 K h l0 l1 l2 l3) : Gd X h 10 [some (vR [14] l0), some (vI l1), some (vI l2), some (vI l3), none, none] [] := by
  unfold wp_X1_entry_b10 at w
  refine g_iload_n 11 rfl C dX1_entry_10 rfl ?_
  refine g_if_eq 14 23 rfl C dX1_entry_11 rfl (fun u131 => ?_) (fun u131 => ?_)
  · have w := w.1 u131
    refine g_sub [some none, some none, some none, some none, none, none] [] rfl rfl ?_
    exact wk_X1_entry_b23 C Rr N _ _ _ _ _ w
  · have w := w.2 u131
    refine g_iload_n 15 rfl C dX1_entry_14 rfl ?_
    refine g_iconst 16 rfl C dX1_entry_15 1 rfl ?_
    refine g_icmp_eq 19 23 rfl C dX1_entry_16 rfl (fun u132 => ?_) (fun u132 => ?_)
    · have w := w.1 u132
      refine g_sub [some none, some none, some none, some none, none, none] [] rfl rfl ?_
      exact wk_X1_entry_b23 C Rr N _ _ _ _ _ w
    · have w := w.2 u132
      refine g_sub [none, none, none, none, none, none] [] rfl rfl ?_
      exact wk_X1_entry_b19 C Rr N _ w
def wp_X1_entry (h : Hp) (x0 : Option Nat) (x1 : Int32) (x2 : Int32) (x3 : Int32) (K : Int64 → Hp → Prop) : Prop :=
  ((x1 = 1 → (wp_X1_entry_b10 K h x0 x1 x2 x3)) ∧ (¬ x1 = 1 → ((¬ x1 = 2 → (wp_X1_entry_b19 K h)) ∧ (x1 = 2 → (wp_X1_entry_b10 K h x0 x1 x2 x3)))))
set_option maxHeartbeats 4000000 in
theorem wk_X1_entry {X : Fx} {K : Int64 → Hp → Prop} (C : Cx X cX1_entry yX1_entry.cls 6 2) (Rr : Rx X (Option.some Jvm.ClassFile.FieldType.long) (pJ K)) (N : Nm X yX1_entry.name) (h : Hp) (x0 : Option Nat) (x1 : Int32) (x2 : Int32) (x3 : Int32) (w : wp_X1_entry h x0 x1 x2 x3 K) : Gd X h 0 [some (vR [14] x0), some (vI x1), some (vI x2), some (vI x3), none, none] [] := by
  unfold wp_X1_entry at w
  refine g_iload_n 1 rfl C dX1_entry_0 rfl ?_
  refine g_iconst 2 rfl C dX1_entry_1 1 rfl ?_
  refine g_icmp_eq 5 10 rfl C dX1_entry_2 rfl (fun u69 => ?_) (fun u69 => ?_)
  · have w := w.1 u69
    refine g_sub [some none, some none, some none, some none, none, none] [] rfl rfl ?_
    exact wk_X1_entry_b10 C Rr N _ _ _ _ _ w
  · have w := w.2 u69
    refine g_iload_n 6 rfl C dX1_entry_5 rfl ?_
    refine g_iconst 7 rfl C dX1_entry_6 2 rfl ?_
    refine g_icmp_ne 10 19 rfl C dX1_entry_7 rfl (fun u70 => ?_) (fun u70 => ?_)
    · have w := w.1 u70
      refine g_sub [none, none, none, none, none, none] [] rfl rfl ?_
      exact wk_X1_entry_b19 C Rr N _ w
    · have w := w.2 u70
      refine g_sub [some none, some none, some none, some none, none, none] [] rfl rfl ?_
      exact wk_X1_entry_b10 C Rr N _ _ _ _ _ w
theorem ct_X1_entry {E : Gx} (GE : Glob E) {h : Hp} {x0 : Option Nat} {x1 : Int32} {x2 : Int32} {x3 : Int32} {K : Int64 → Hp → Prop} (w : wp_X1_entry h x0 x1 x2 x3 K) : Ct E yX1_entry cX1_entry 6 (Option.some Jvm.ClassFile.FieldType.long) 2 [vR [14] x0, vI x1, vI x2, vI x3] h (pJ K) :=
  Ct.of GE (by decide +kernel) (by simp [lvA, t2]) rfl (fun X hX C Rr N => wk_X1_entry C Rr N h x0 x1 x2 x3 w)
def wp_X1_sum_b16 (K : Int64 → Hp → Prop) : Nat → Hp → Option Nat → Int32 → Int64 → Int32 → Prop
  | 0 => fun _ _ _ _ _ => False
  | m9 + 1 => fun h l0 l1 l2 l4 =>
    (∃ a73, l0 = some a73 ∧ (∃ a75, (rf h 41 a73) = some a75 ∧ (∃ j77, l1 = nI j77 ∧ j77 < ln h a75 ∧ (∃ a80, (rf h (100 + j77) a75) = some a80 ∧ (((it h 47 a80) ≤ l4 → (K l2 h)) ∧ (¬ (it h 47 a80) ≤ l4 → (∃ j83, l1 = nI j83 ∧ j83 < ln h a75 ∧ (∃ a86, (rf h (100 + j83) a75) = some a86 ∧ (∃ j88, l1 = nI j88 ∧ j88 < ln h a75 ∧ (∃ a91, (rf h (100 + j88) a75) = some a91 ∧ (∃ a93, (rf h 42 a91) = some a93 ∧ (∃ j95, l4 = nI j95 ∧ j95 < ln h a93 ∧ (∃ a98, (rf h 43 a86) = some a98 ∧ (∃ j100, (it h (100 + j95) a93) = nI j100 ∧ j100 < ln h a98 ∧ (∃ j103, l1 = nI j103 ∧ j103 < ln h a75 ∧ (∃ a106, (rf h (100 + j103) a75) = some a106 ∧ (∃ j108, l1 = nI j108 ∧ j108 < ln h a75 ∧ (∃ a111, (rf h (100 + j108) a75) = some a111 ∧ (∃ a113, (rf h 42 a111) = some a113 ∧ (∃ j115, l4 = nI j115 ∧ j115 < ln h a113 ∧ (∃ a118, (rf h 44 a106) = some a118 ∧ (∃ j120, (it h (100 + j115) a113) = nI j120 ∧ j120 < ln h a118 ∧ (wp_X1_sum_b16 K m9 h l0 l1 (l2 + (((31 : Int64) * ((it h (100 + j100) a98) : Int32).toInt64) + ((it h (100 + j120) a118) : Int32).toInt64)) (l4 + 1))))))))))))))))))))))))
set_option maxHeartbeats 4000000 in
theorem wk_X1_sum_b16 {X : Fx} {K : Int64 → Hp → Prop} (C : Cx X cX1_sum yX1_sum.cls 5 3) (Rr : Rx X (Option.some Jvm.ClassFile.FieldType.long) (pJ K)) (N : Nm X yX1_sum.name) : ∀ (n : Nat) (h : Hp) (l0 : Option Nat) (l1 : Int32) (l2 : Int64) (l4 : Int32), wp_X1_sum_b16 K n h l0 l1 l2 l4 → Gd X h 16 [some (vR [14] l0), some (vI l1), some (vL l2), none, some (vI l4)] [] := by
  intro n
  induction n with
  | zero => intro h l0 l1 l2 l4 w; exact w.elim
  | succ n ih =>
    intro h l0 l1 l2 l4 w
    unfold wp_X1_sum_b16 at w
    refine g_iload 18 rfl C dX1_sum_16 rfl ?_
    refine g_aload_n 19 rfl C dX1_sum_18 rfl ?_
    obtain ⟨a73, e74, w⟩ := w
    refine g_getR 22 rfl C dX1_sum_19 fl_HashHallModel_12 rfl e74 rfl ?_
    refine g_iload_n 23 rfl C dX1_sum_22 rfl ?_
    obtain ⟨a75, e76, w⟩ := w
    obtain ⟨j77, e78, e79, w⟩ := w
    refine g_aaload 52 24 rfl C dX1_sum_23 (by decide) e76 e78 e79 ?_
    obtain ⟨a80, e81, w⟩ := w
    refine g_getI 27 rfl C dX1_sum_24 fl_HashHallModel_50 rfl e81 rfl ?_
    refine g_icmp_ge 30 90 rfl C dX1_sum_27 rfl (fun u82 => ?_) (fun u82 => ?_)
    · have w := w.1 u82
      refine g_lload_n 91 rfl C dX1_sum_90 rfl ?_
      exact g_lreturn C Rr dX1_sum_91 ⟨_, rfl, w⟩
    · have w := w.2 u82
      refine g_lload_n 31 rfl C dX1_sum_30 rfl ?_
      refine g_ldc2 34 rfl C dX1_sum_31 q1265 ?_
      refine g_aload_n 35 rfl C dX1_sum_34 rfl ?_
      refine g_getR 38 rfl C dX1_sum_35 fl_HashHallModel_12 rfl e74 rfl ?_
      refine g_iload_n 39 rfl C dX1_sum_38 rfl ?_
      obtain ⟨j83, e84, e85, w⟩ := w
      refine g_aaload 52 40 rfl C dX1_sum_39 (by decide) e76 e84 e85 ?_
      obtain ⟨a86, e87, w⟩ := w
      refine g_getR 43 rfl C dX1_sum_40 fl_HashHallModel_60 rfl e87 rfl ?_
      refine g_aload_n 44 rfl C dX1_sum_43 rfl ?_
      refine g_getR 47 rfl C dX1_sum_44 fl_HashHallModel_12 rfl e74 rfl ?_
      refine g_iload_n 48 rfl C dX1_sum_47 rfl ?_
      obtain ⟨j88, e89, e90, w⟩ := w
      refine g_aaload 52 49 rfl C dX1_sum_48 (by decide) e76 e89 e90 ?_
      obtain ⟨a91, e92, w⟩ := w
      refine g_getR 52 rfl C dX1_sum_49 fl_HashHallModel_54 rfl e92 rfl ?_
      refine g_iload 54 rfl C dX1_sum_52 rfl ?_
      obtain ⟨a93, e94, w⟩ := w
      obtain ⟨j95, e96, e97, w⟩ := w
      refine g_iaload 55 rfl C dX1_sum_54 e94 e96 e97 ?_
      obtain ⟨a98, e99, w⟩ := w
      obtain ⟨j100, e101, e102, w⟩ := w
      refine g_iaload 56 rfl C dX1_sum_55 e99 e101 e102 ?_
      refine g_i2l 57 rfl C dX1_sum_56 ?_
      refine g_lmul 58 rfl C dX1_sum_57 ?_
      refine g_aload_n 59 rfl C dX1_sum_58 rfl ?_
      refine g_getR 62 rfl C dX1_sum_59 fl_HashHallModel_12 rfl e74 rfl ?_
      refine g_iload_n 63 rfl C dX1_sum_62 rfl ?_
      obtain ⟨j103, e104, e105, w⟩ := w
      refine g_aaload 52 64 rfl C dX1_sum_63 (by decide) e76 e104 e105 ?_
      obtain ⟨a106, e107, w⟩ := w
      refine g_getR 67 rfl C dX1_sum_64 fl_HashHallModel_36 rfl e107 rfl ?_
      refine g_aload_n 68 rfl C dX1_sum_67 rfl ?_
      refine g_getR 71 rfl C dX1_sum_68 fl_HashHallModel_12 rfl e74 rfl ?_
      refine g_iload_n 72 rfl C dX1_sum_71 rfl ?_
      obtain ⟨j108, e109, e110, w⟩ := w
      refine g_aaload 52 73 rfl C dX1_sum_72 (by decide) e76 e109 e110 ?_
      obtain ⟨a111, e112, w⟩ := w
      refine g_getR 76 rfl C dX1_sum_73 fl_HashHallModel_54 rfl e112 rfl ?_
      refine g_iload 78 rfl C dX1_sum_76 rfl ?_
      obtain ⟨a113, e114, w⟩ := w
      obtain ⟨j115, e116, e117, w⟩ := w
      refine g_iaload 79 rfl C dX1_sum_78 e114 e116 e117 ?_
      obtain ⟨a118, e119, w⟩ := w
      obtain ⟨j120, e121, e122, w⟩ := w
      refine g_iaload 80 rfl C dX1_sum_79 e119 e121 e122 ?_
      refine g_i2l 81 rfl C dX1_sum_80 ?_
      refine g_ladd 82 rfl C dX1_sum_81 ?_
      refine g_ladd 83 rfl C dX1_sum_82 ?_
      refine g_lstore_n 84 rfl C dX1_sum_83 (by decide) (rfl : _ = [some (vR [14] _), some (vI _), some (vL _), none, some (vI _)]) ?_
      refine g_iinc 87 rfl C dX1_sum_84 rfl _ rfl (by decide) (rfl : _ = [some (vR [14] _), some (vI _), some (vL _), none, some (vI _)]) ?_
      refine g_goto 16 C dX1_sum_87 rfl ?_
      refine g_sub [some none, some none, some none, none, some none] [] rfl rfl ?_
      exact ih _ _ _ _ _ w
def wp_X1_sum (h : Hp) (x0 : Option Nat) (x1 : Int32) (K : Int64 → Hp → Prop) : Prop :=
  (wp_X1_isMap h x1 (fun r124 h125 => Ex h h125 → ((¬ r124 = 0 → (∃ n, wp_X1_sum_b16 K n h125 x0 x1 0 0)) ∧ (r124 = 0 → (K (1099511627777 : Int64) h125)))))
set_option maxHeartbeats 4000000 in
theorem wk_X1_sum {X : Fx} {K : Int64 → Hp → Prop} (C : Cx X cX1_sum yX1_sum.cls 5 3) (Rr : Rx X (Option.some Jvm.ClassFile.FieldType.long) (pJ K)) (N : Nm X yX1_sum.name) (h : Hp) (x0 : Option Nat) (x1 : Int32) (w : wp_X1_sum h x0 x1 K) : Gd X h 0 [some (vR [14] x0), some (vI x1), none, none, none] [] := by
  unfold wp_X1_sum at w
  refine g_iload_n 1 rfl C dX1_sum_0 rfl ?_
  refine g_callS (As := [vI _]) (st := []) 4 rfl C dX1_sum_1 q1157 q1158 q16 q1159 okn_52e77d (by decide) (by decide) (Nat.le_of_ble_eq_true rfl) rfl (ct_X1_isMap C.glob w) (fun r0 h125 p126 x127 _ => ?_)
  obtain ⟨r124, rfl, w⟩ := p126
  have w := w x127
  change Gd _ _ _ _ (vI r124 :: [])
  refine g_if_ne 7 11 rfl C dX1_sum_4 rfl (fun u128 => ?_) (fun u128 => ?_)
  · have w := w.1 u128
    refine g_lconst 12 rfl C dX1_sum_11 0 rfl ?_
    refine g_lstore_n 13 rfl C dX1_sum_12 (by decide) (rfl : _ = [some (vR [14] _), some (vI _), some (vL _), none, none]) ?_
    refine g_iconst 14 rfl C dX1_sum_13 0 rfl ?_
    refine g_istore 16 rfl C dX1_sum_14 (by decide) (rfl : _ = [some (vR [14] _), some (vI _), some (vL _), none, some (vI _)]) ?_
    refine g_sub [some none, some none, some none, none, some none] [] rfl rfl ?_
    obtain ⟨n9, w⟩ := w
    exact wk_X1_sum_b16 C Rr N n9 _ _ _ _ _ w
  · have w := w.2 u128
    refine g_ldc2 10 rfl C dX1_sum_7 q1160 ?_
    exact g_lreturn C Rr dX1_sum_10 ⟨_, rfl, w⟩
theorem ct_X1_sum {E : Gx} (GE : Glob E) {h : Hp} {x0 : Option Nat} {x1 : Int32} {K : Int64 → Hp → Prop} (w : wp_X1_sum h x0 x1 K) : Ct E yX1_sum cX1_sum 5 (Option.some Jvm.ClassFile.FieldType.long) 3 [vR [14] x0, vI x1] h (pJ K) :=
  Ct.of GE (by decide +kernel) (by simp [lvA, t2]) rfl (fun X hX C Rr N => wk_X1_sum C Rr N h x0 x1 w)
