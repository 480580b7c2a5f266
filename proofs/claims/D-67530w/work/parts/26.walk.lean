/-! WALKS (printed by emit.py): X0_entry X0_sum X0_sweep X0_raise X0_fill X2_init X1_init X1_isMap X2_link X2_unlink X2_toLast X1_use -/
set_option maxRecDepth 100000
def wp_X0_entry_b19 (K : Int64 → Hp → Prop) (h : Hp)  : Prop :=
  (K (1099511627777 : Int64) h)
set_option maxHeartbeats 4000000 in
theorem wk_X0_entry_b19 {X : Fx} {K : Int64 → Hp → Prop} (C : Cx X cX0_entry yX0_entry.cls 7 7) (Rr : Rx X (Option.some Jvm.ClassFile.FieldType.long) (pJ K)) (N : Nm X yX0_entry.name) (h : Hp)  (w : wp_X0_entry_b19 K h ) : Gd X h 19 [none, none, none, none, none, none, none] [] := by
  unfold wp_X0_entry_b19 at w
  refine g_ldc2 22 rfl C dX0_entry_19 q162 ?_
  exact g_lreturn C Rr dX0_entry_22 ⟨_, rfl, w⟩
def wp_X0_entry_b96 (K : Int64 → Hp → Prop) (h : Hp) (s0 : Option Nat) : Prop :=
  (∃ a107, s0 = some a107 ∧ (wp_J5_intValue h s0 (fun r110 h111 => Ex h h111 → (K ((r110 : Int32).toInt64) h111))))
set_option maxHeartbeats 4000000 in
theorem wk_X0_entry_b96 {X : Fx} {K : Int64 → Hp → Prop} (C : Cx X cX0_entry yX0_entry.cls 7 7) (Rr : Rx X (Option.some Jvm.ClassFile.FieldType.long) (pJ K)) (N : Nm X yX0_entry.name) (h : Hp) (s0 : Option Nat) (w : wp_X0_entry_b96 K h s0) : Gd X h 96 [none, none, none, none, none, none, none] [vR [4, 60] s0] := by
  unfold wp_X0_entry_b96 at w
  obtain ⟨a107, e108, w⟩ := w
  refine g_callV (As := []) (T := [4, 60]) (st := []) "java/lang/Integer" 99 rfl C dX0_entry_96 q487 q392 q393 q15 q394 rfl okn_6fb5dd (by decide) (by decide) (Nat.le_of_ble_eq_true rfl) e108 (fun q => tC rfl q) rfl (ct_J5_intValue C.glob w) (fun r0 h111 p112 x113 _ => ?_)
  obtain ⟨r110, rfl, w⟩ := p112
  have w := w x113
  change Gd _ _ _ _ (vI r110 :: [])
  refine g_i2l 100 rfl C dX0_entry_99 ?_
  exact g_lreturn C Rr dX0_entry_100 ⟨_, rfl, w⟩
def wp_X0_entry_b80 (K : Int64 → Hp → Prop) (h : Hp) (s0 : Option Nat) : Prop :=
  (wp_X0_entry_b96 K h s0)
set_option maxHeartbeats 4000000 in
theorem wk_X0_entry_b80 {X : Fx} {K : Int64 → Hp → Prop} (C : Cx X cX0_entry yX0_entry.cls 7 7) (Rr : Rx X (Option.some Jvm.ClassFile.FieldType.long) (pJ K)) (N : Nm X yX0_entry.name) (h : Hp) (s0 : Option Nat) (w : wp_X0_entry_b80 K h s0) : Gd X h 80 [none, none, none, none, none, none, none] [vR [4, 60] s0] := by
  unfold wp_X0_entry_b80 at w
  refine g_cast [4, 60] 83 rfl C dX0_entry_80 q482 co_Integer_4_60 (fun _ _ q => q) ?_
  refine g_goto 96 C dX0_entry_83 rfl ?_
  refine g_sub [none, none, none, none, none, none, none] [none] rfl rfl ?_
  exact wk_X0_entry_b96 C Rr N _ _ w
def wp_X0_entry_b93 (K : Int64 → Hp → Prop) (h : Hp) (s0 : Option Nat) : Prop :=
  (wp_X0_entry_b96 K h s0)
set_option maxHeartbeats 4000000 in
theorem wk_X0_entry_b93 {X : Fx} {K : Int64 → Hp → Prop} (C : Cx X cX0_entry yX0_entry.cls 7 7) (Rr : Rx X (Option.some Jvm.ClassFile.FieldType.long) (pJ K)) (N : Nm X yX0_entry.name) (h : Hp) (s0 : Option Nat) (w : wp_X0_entry_b93 K h s0) : Gd X h 93 [none, none, none, none, none, none, none] [vR [4, 60] s0] := by
  unfold wp_X0_entry_b93 at w
  refine g_cast [4, 60] 96 rfl C dX0_entry_93 q482 co_Integer_4_60 (fun _ _ q => q) ?_
  refine g_sub [none, none, none, none, none, none, none] [none] rfl rfl ?_
  exact wk_X0_entry_b96 C Rr N _ _ w
def wp_X0_entry_b58 (G41 : Hp → Int32 → Int32 → Int32 → Option Nat → Prop) (K : Int64 → Hp → Prop) (h : Hp) (l2 : Int32) (l3 : Int32) (l4 : Int32) (l5 : Option Nat) (s0 : Option Nat) : Prop :=
  ((∀ a, s0 = some a → kd h a ∈ [5, 6, 7]) ∧ ((¬ l4 = l2 → (G41 h l2 l3 (l4 + 1) l5)) ∧ (l4 = l2 → ((¬ l3 = 0 → (∃ a199, s0 = some a199 ∧ (wp_J6_getValue h s0 (fun r202 h203 => Ex h h203 → (wp_X0_entry_b93 K h203 r202))))) ∧ (l3 = 0 → (∃ a206, s0 = some a206 ∧ (wp_J6_getKey h s0 (fun r209 h210 => Ex h h210 → (wp_X0_entry_b80 K h210 r209)))))))))
set_option maxHeartbeats 4000000 in
theorem wk_X0_entry_b58 {X : Fx} {K : Int64 → Hp → Prop} (C : Cx X cX0_entry yX0_entry.cls 7 7) (Rr : Rx X (Option.some Jvm.ClassFile.FieldType.long) (pJ K)) (N : Nm X yX0_entry.name) {G41 : Hp → Int32 → Int32 → Int32 → Option Nat → Prop} (k41 : ∀ (h : Hp) (l2 : Int32) (l3 : Int32) (l4 : Int32) (l5 : Option Nat), G41 h l2 l3 l4 l5 → Gd X h 41 [none, none, some (vI l2), some (vI l3), some (vI l4), some (vR [11, 12, 13] l5), none] []) (h : Hp) (l2 : Int32) (l3 : Int32) (l4 : Int32) (l5 : Option Nat) (s0 : Option Nat) (w : wp_X0_entry_b58 G41 K h l2 l3 l4 l5 s0) : Gd X h 58 [none, none, some (vI l2), some (vI l3), some (vI l4), some (vR [11, 12, 13] l5), none] [vR [4, 5, 6, 7, 60] s0] := by
  unfold wp_X0_entry_b58 at w
  obtain ⟨k196, w⟩ := w
  refine g_cast [5, 6, 7] 61 rfl C dX0_entry_58 q977 co_Map_Entry_5_6_7 (fun a q _ => k196 a q) ?_
  refine g_astore 63 rfl C dX0_entry_61 (by decide) (rfl : _ = [none, none, some (vI _), some (vI _), some (vI _), some (vR [11, 12, 13] _), some (vR [5, 6, 7] _)]) ?_
  refine g_iload 65 rfl C dX0_entry_63 rfl ?_
  refine g_iload_n 66 rfl C dX0_entry_65 rfl ?_
  refine g_icmp_ne 69 101 rfl C dX0_entry_66 rfl (fun u197 => ?_) (fun u197 => ?_)
  · have w := w.1 u197
    refine g_iinc 104 rfl C dX0_entry_101 rfl _ rfl (by decide) (rfl : _ = [none, none, some (vI _), some (vI _), some (vI _), some (vR [11, 12, 13] _), some (vR [5, 6, 7] _)]) ?_
    refine g_goto 41 C dX0_entry_104 rfl ?_
    refine g_sub [none, none, some none, some none, some none, some none, none] [] rfl rfl ?_
    exact k41 _ _ _ _ _ w
  · have w := w.2 u197
    refine g_iload_n 70 rfl C dX0_entry_69 rfl ?_
    refine g_if_ne 73 86 rfl C dX0_entry_70 rfl (fun u198 => ?_) (fun u198 => ?_)
    · have w := w.1 u198
      refine g_aload 88 rfl C dX0_entry_86 rfl ?_
      obtain ⟨a199, e200, w⟩ := w
      refine g_known 0 rfl e200 (fun k201 => ?_)
      have k201 : kd _ _ ∈ [5, 6, 7] := k201
      simp only [List.mem_cons, List.not_mem_nil, or_false] at k201
      rcases k201 with k201 | k201 | k201
      · refine g_callF (As := []) (T := [5, 6, 7]) (st := []) "java/util/HashMap$Node" 93 rfl C dX0_entry_88 q981 q963 q965 q19 q967 q962 q961 q966 q964 q949 okn_b350bc (by decide) (by decide) (Nat.le_of_ble_eq_true rfl) e200 (fun _ => kC rfl k201) rfl (ct_J6_getValue C.glob w) (fun r0 h203 p204 x205 _ => ?_)
        obtain ⟨r202, rfl, w⟩ := p204
        have w := w x205
        change Gd _ _ _ _ (vR [4, 60] r202 :: [])
        refine g_sub [none, none, none, none, none, none, none] [none] rfl rfl ?_
        exact wk_X0_entry_b93 C Rr N _ _ w
      · refine g_callF (As := []) (T := [5, 6, 7]) (st := []) "java/util/LinkedHashMap$Entry" 93 rfl C dX0_entry_88 q981 q970 q965 q19 q967 q962 q961 q966 q971 q956 okn_b350bc (by decide) (by decide) (Nat.le_of_ble_eq_true rfl) e200 (fun _ => kC rfl k201) rfl (ct_J6_getValue C.glob w) (fun r0 h203 p204 x205 _ => ?_)
        obtain ⟨r202, rfl, w⟩ := p204
        have w := w x205
        change Gd _ _ _ _ (vR [4, 60] r202 :: [])
        refine g_sub [none, none, none, none, none, none, none] [none] rfl rfl ?_
        exact wk_X0_entry_b93 C Rr N _ _ w
      · refine g_callF (As := []) (T := [5, 6, 7]) (st := []) "java/util/HashMap$TreeNode" 93 rfl C dX0_entry_88 q981 q968 q965 q19 q967 q962 q961 q966 q969 q953 okn_b350bc (by decide) (by decide) (Nat.le_of_ble_eq_true rfl) e200 (fun _ => kC rfl k201) rfl (ct_J6_getValue C.glob w) (fun r0 h203 p204 x205 _ => ?_)
        obtain ⟨r202, rfl, w⟩ := p204
        have w := w x205
        change Gd _ _ _ _ (vR [4, 60] r202 :: [])
        refine g_sub [none, none, none, none, none, none, none] [none] rfl rfl ?_
        exact wk_X0_entry_b93 C Rr N _ _ w
    · have w := w.2 u198
      refine g_aload 75 rfl C dX0_entry_73 rfl ?_
      obtain ⟨a206, e207, w⟩ := w
      refine g_known 0 rfl e207 (fun k208 => ?_)
      have k208 : kd _ _ ∈ [5, 6, 7] := k208
      simp only [List.mem_cons, List.not_mem_nil, or_false] at k208
      rcases k208 with k208 | k208 | k208
      · refine g_callF (As := []) (T := [5, 6, 7]) (st := []) "java/util/HashMap$Node" 80 rfl C dX0_entry_75 q979 q950 q845 q19 q846 q948 q947 q952 q951 q949 okn_e82fcc (by decide) (by decide) (Nat.le_of_ble_eq_true rfl) e207 (fun _ => kC rfl k208) rfl (ct_J6_getKey C.glob w) (fun r0 h210 p211 x212 _ => ?_)
        obtain ⟨r209, rfl, w⟩ := p211
        have w := w x212
        change Gd _ _ _ _ (vR [4, 60] r209 :: [])
        refine g_sub [none, none, none, none, none, none, none] [none] rfl rfl ?_
        exact wk_X0_entry_b80 C Rr N _ _ w
      · refine g_callF (As := []) (T := [5, 6, 7]) (st := []) "java/util/LinkedHashMap$Entry" 80 rfl C dX0_entry_75 q979 q957 q845 q19 q846 q948 q947 q952 q958 q956 okn_e82fcc (by decide) (by decide) (Nat.le_of_ble_eq_true rfl) e207 (fun _ => kC rfl k208) rfl (ct_J6_getKey C.glob w) (fun r0 h210 p211 x212 _ => ?_)
        obtain ⟨r209, rfl, w⟩ := p211
        have w := w x212
        change Gd _ _ _ _ (vR [4, 60] r209 :: [])
        refine g_sub [none, none, none, none, none, none, none] [none] rfl rfl ?_
        exact wk_X0_entry_b80 C Rr N _ _ w
      · refine g_callF (As := []) (T := [5, 6, 7]) (st := []) "java/util/HashMap$TreeNode" 80 rfl C dX0_entry_75 q979 q954 q845 q19 q846 q948 q947 q952 q955 q953 okn_e82fcc (by decide) (by decide) (Nat.le_of_ble_eq_true rfl) e207 (fun _ => kC rfl k208) rfl (ct_J6_getKey C.glob w) (fun r0 h210 p211 x212 _ => ?_)
        obtain ⟨r209, rfl, w⟩ := p211
        have w := w x212
        change Gd _ _ _ _ (vR [4, 60] r209 :: [])
        refine g_sub [none, none, none, none, none, none, none] [none] rfl rfl ?_
        exact wk_X0_entry_b80 C Rr N _ _ w
def wp_X0_entry_b48 (G41 : Hp → Int32 → Int32 → Int32 → Option Nat → Prop) (K : Int64 → Hp → Prop) (h : Hp) (l2 : Int32) (l3 : Int32) (l4 : Int32) (l5 : Option Nat) (s0 : Int32) : Prop :=
  ((s0 = 0 → (K (1099511627776 : Int64) h)) ∧ (¬ s0 = 0 → ((∃ a175, l5 = some a175 ∧ (kd h a175 = 11 ∧ (wp_J17_next h l5 (fun r178 h179 => Ex h h179 → (wp_X0_entry_b58 G41 K h179 l2 l3 l4 l5 r178))))) ∨ (∃ a182, l5 = some a182 ∧ (kd h a182 = 12 ∧ (wp_J16_next h l5 (fun r185 h186 => Ex h h186 → (wp_X0_entry_b58 G41 K h186 l2 l3 l4 l5 r185))))) ∨ (∃ a189, l5 = some a189 ∧ (kd h a189 = 13 ∧ (wp_J19_next h l5 (fun r192 h193 => Ex h h193 → (wp_X0_entry_b58 G41 K h193 l2 l3 l4 l5 r192))))))))
set_option maxHeartbeats 4000000 in
theorem wk_X0_entry_b48 {X : Fx} {K : Int64 → Hp → Prop} (C : Cx X cX0_entry yX0_entry.cls 7 7) (Rr : Rx X (Option.some Jvm.ClassFile.FieldType.long) (pJ K)) (N : Nm X yX0_entry.name) {G41 : Hp → Int32 → Int32 → Int32 → Option Nat → Prop} (k41 : ∀ (h : Hp) (l2 : Int32) (l3 : Int32) (l4 : Int32) (l5 : Option Nat), G41 h l2 l3 l4 l5 → Gd X h 41 [none, none, some (vI l2), some (vI l3), some (vI l4), some (vR [11, 12, 13] l5), none] []) (h : Hp) (l2 : Int32) (l3 : Int32) (l4 : Int32) (l5 : Option Nat) (s0 : Int32) (w : wp_X0_entry_b48 G41 K h l2 l3 l4 l5 s0) : Gd X h 48 [none, none, some (vI l2), some (vI l3), some (vI l4), some (vR [11, 12, 13] l5), none] [vI s0] := by
  unfold wp_X0_entry_b48 at w
  refine g_if_eq 51 107 rfl C dX0_entry_48 rfl (fun u174 => ?_) (fun u174 => ?_)
  · have w := w.1 u174
    refine g_ldc2 110 rfl C dX0_entry_107 q486 ?_
    exact g_lreturn C Rr dX0_entry_110 ⟨_, rfl, w⟩
  · have w := w.2 u174
    refine g_aload 53 rfl C dX0_entry_51 rfl ?_
    rcases w with w | w | w
    · obtain ⟨a175, e176, w⟩ := w
      obtain ⟨k177, w⟩ := w
      refine g_nar 0 [11] rfl e176 (by rw [k177]; decide) ?_
      refine g_callF (As := []) (T := [11]) (st := []) "java/util/HashMap$KeyIterator" 58 rfl C dX0_entry_53 q791 q809 q811 q31 q813 q793 q792 q812 q810 q778 okn_a0cf24 (by decide) (by decide) (Nat.le_of_ble_eq_true rfl) e176 (fun _ => kC rfl k177) rfl (ct_J17_next C.glob w) (fun r0 h179 p180 x181 _ => ?_)
      obtain ⟨r178, rfl, w⟩ := p180
      have w := w x181
      change Gd _ _ _ _ (vR [4, 60] r178 :: [])
      refine g_sub [none, none, some none, some none, some none, some none, none] [some [4, 5, 6, 7, 60]] rfl rfl ?_
      exact wk_X0_entry_b58 C Rr N k41 _ _ _ _ _ _ w
    · obtain ⟨a182, e183, w⟩ := w
      obtain ⟨k184, w⟩ := w
      refine g_nar 0 [12] rfl e183 (by rw [k184]; decide) ?_
      refine g_callF (As := []) (T := [12]) (st := []) "java/util/HashMap$EntryIterator" 58 rfl C dX0_entry_53 q791 q794 q796 q30 q798 q793 q792 q797 q795 q772 okn_a0cf24 (by decide) (by decide) (Nat.le_of_ble_eq_true rfl) e183 (fun _ => kC rfl k184) rfl (ct_J16_next C.glob w) (fun r0 h186 p187 x188 _ => ?_)
      obtain ⟨r185, rfl, w⟩ := p187
      have w := w x188
      change Gd _ _ _ _ (vR [5, 6, 7] r185 :: [])
      refine g_sub [none, none, some none, some none, some none, some none, none] [some [4, 5, 6, 7, 60]] rfl rfl ?_
      exact wk_X0_entry_b58 C Rr N k41 _ _ _ _ _ _ w
    · obtain ⟨a189, e190, w⟩ := w
      obtain ⟨k191, w⟩ := w
      refine g_nar 0 [13] rfl e190 (by rw [k191]; decide) ?_
      refine g_callF (As := []) (T := [13]) (st := []) "java/util/LinkedHashMap$LinkedEntryIterator" 58 rfl C dX0_entry_53 q791 q817 q819 q33 q821 q793 q792 q820 q818 q781 okn_a0cf24 (by decide) (by decide) (Nat.le_of_ble_eq_true rfl) e190 (fun _ => kC rfl k191) rfl (ct_J19_next C.glob w) (fun r0 h193 p194 x195 _ => ?_)
      obtain ⟨r192, rfl, w⟩ := p194
      have w := w x195
      change Gd _ _ _ _ (vR [6, 7] r192 :: [])
      refine g_sub [none, none, some none, some none, some none, some none, none] [some [4, 5, 6, 7, 60]] rfl rfl ?_
      exact wk_X0_entry_b58 C Rr N k41 _ _ _ _ _ _ w
def wp_X0_entry_b41 (K : Int64 → Hp → Prop) : Nat → Hp → Int32 → Int32 → Int32 → Option Nat → Prop
  | 0 => fun _ _ _ _ _ => False
  | m9 + 1 => fun h l2 l3 l4 l5 =>
    ((∃ a160, l5 = some a160 ∧ (kd h a160 ∈ [11, 12] ∧ (wp_J15_hasNext h l5 (fun r163 h164 => Ex h h164 → (wp_X0_entry_b48 (wp_X0_entry_b41 K m9) K h164 l2 l3 l4 l5 r163))))) ∨ (∃ a167, l5 = some a167 ∧ (kd h a167 = 13 ∧ (wp_J18_hasNext h l5 (fun r170 h171 => Ex h h171 → (wp_X0_entry_b48 (wp_X0_entry_b41 K m9) K h171 l2 l3 l4 l5 r170))))))
set_option maxHeartbeats 4000000 in
theorem wk_X0_entry_b41 {X : Fx} {K : Int64 → Hp → Prop} (C : Cx X cX0_entry yX0_entry.cls 7 7) (Rr : Rx X (Option.some Jvm.ClassFile.FieldType.long) (pJ K)) (N : Nm X yX0_entry.name) : ∀ (n : Nat) (h : Hp) (l2 : Int32) (l3 : Int32) (l4 : Int32) (l5 : Option Nat), wp_X0_entry_b41 K n h l2 l3 l4 l5 → Gd X h 41 [none, none, some (vI l2), some (vI l3), some (vI l4), some (vR [11, 12, 13] l5), none] [] := by
  intro n
  induction n with
  | zero => intro h l2 l3 l4 l5 w; exact w.elim
  | succ n ih =>
    intro h l2 l3 l4 l5 w
    unfold wp_X0_entry_b41 at w
    refine g_aload 43 rfl C dX0_entry_41 rfl ?_
    rcases w with w | w
    · obtain ⟨a160, e161, w⟩ := w
      obtain ⟨k162, w⟩ := w
      have k162 : kd _ _ ∈ [11, 12] := k162
      simp only [List.mem_cons, List.not_mem_nil, or_false] at k162
      rcases k162 with k162 | k162
      · refine g_nar 0 [11, 12] rfl e161 (by rw [k162]; decide) ?_
        refine g_callF (As := []) (T := [11, 12]) (st := []) "java/util/HashMap$KeyIterator" 48 rfl C dX0_entry_43 q769 q779 q775 q29 q777 q771 q770 q776 q780 q778 okn_1bd07e (by decide) (by decide) (Nat.le_of_ble_eq_true rfl) e161 (fun _ => kC rfl k162) rfl (ct_J15_hasNext C.glob w) (fun r0 h164 p165 x166 _ => ?_)
        obtain ⟨r163, rfl, w⟩ := p165
        have w := w x166
        change Gd _ _ _ _ (vI r163 :: [])
        refine g_sub [none, none, some none, some none, some none, some none, none] [none] rfl rfl ?_
        exact wk_X0_entry_b48 C Rr N ih _ _ _ _ _ _ w
      · refine g_nar 0 [11, 12] rfl e161 (by rw [k162]; decide) ?_
        refine g_callF (As := []) (T := [11, 12]) (st := []) "java/util/HashMap$EntryIterator" 48 rfl C dX0_entry_43 q769 q773 q775 q29 q777 q771 q770 q776 q774 q772 okn_1bd07e (by decide) (by decide) (Nat.le_of_ble_eq_true rfl) e161 (fun _ => kC rfl k162) rfl (ct_J15_hasNext C.glob w) (fun r0 h164 p165 x166 _ => ?_)
        obtain ⟨r163, rfl, w⟩ := p165
        have w := w x166
        change Gd _ _ _ _ (vI r163 :: [])
        refine g_sub [none, none, some none, some none, some none, some none, none] [none] rfl rfl ?_
        exact wk_X0_entry_b48 C Rr N ih _ _ _ _ _ _ w
    · obtain ⟨a167, e168, w⟩ := w
      obtain ⟨k169, w⟩ := w
      refine g_nar 0 [13] rfl e168 (by rw [k169]; decide) ?_
      refine g_callF (As := []) (T := [13]) (st := []) "java/util/LinkedHashMap$LinkedEntryIterator" 48 rfl C dX0_entry_43 q769 q782 q784 q32 q786 q771 q770 q785 q783 q781 okn_1bd07e (by decide) (by decide) (Nat.le_of_ble_eq_true rfl) e168 (fun _ => kC rfl k169) rfl (ct_J18_hasNext C.glob w) (fun r0 h171 p172 x173 _ => ?_)
      obtain ⟨r170, rfl, w⟩ := p172
      have w := w x173
      change Gd _ _ _ _ (vI r170 :: [])
      refine g_sub [none, none, some none, some none, some none, some none, none] [none] rfl rfl ?_
      exact wk_X0_entry_b48 C Rr N ih _ _ _ _ _ _ w
def wp_X0_entry_b39 (K : Int64 → Hp → Prop) (h : Hp) (l2 : Int32) (l3 : Int32) (l4 : Int32) (s0 : Option Nat) : Prop :=
  (∃ n, wp_X0_entry_b41 K n h l2 l3 l4 s0)
set_option maxHeartbeats 4000000 in
theorem wk_X0_entry_b39 {X : Fx} {K : Int64 → Hp → Prop} (C : Cx X cX0_entry yX0_entry.cls 7 7) (Rr : Rx X (Option.some Jvm.ClassFile.FieldType.long) (pJ K)) (N : Nm X yX0_entry.name) (h : Hp) (l2 : Int32) (l3 : Int32) (l4 : Int32) (s0 : Option Nat) (w : wp_X0_entry_b39 K h l2 l3 l4 s0) : Gd X h 39 [none, none, some (vI l2), some (vI l3), some (vI l4), none, none] [vR [11, 12, 13] s0] := by
  unfold wp_X0_entry_b39 at w
  refine g_astore 41 rfl C dX0_entry_39 (by decide) (rfl : _ = [none, none, some (vI _), some (vI _), some (vI _), some (vR [11, 12, 13] _), none]) ?_
  refine g_sub [none, none, some none, some none, some none, some none, none] [] rfl rfl ?_
  obtain ⟨n9, w⟩ := w
  exact wk_X0_entry_b41 C Rr N n9 _ _ _ _ _ w
def wp_X0_entry_b34 (K : Int64 → Hp → Prop) (h : Hp) (l2 : Int32) (l3 : Int32) (l4 : Int32) (s0 : Option Nat) : Prop :=
  ((∃ a139, s0 = some a139 ∧ (kd h a139 = 8 ∧ (wp_J13_iterator h s0 (fun r142 h143 => Ex h h143 → (wp_X0_entry_b39 K h143 l2 l3 l4 r142))))) ∨ (∃ a146, s0 = some a146 ∧ (kd h a146 = 9 ∧ (wp_J22_iterator h s0 (fun r149 h150 => Ex h h150 → (wp_X0_entry_b39 K h150 l2 l3 l4 r149))))) ∨ (∃ a153, s0 = some a153 ∧ (kd h a153 = 10 ∧ (wp_J23_iterator h s0 (fun r156 h157 => Ex h h157 → (wp_X0_entry_b39 K h157 l2 l3 l4 r156))))))
set_option maxHeartbeats 4000000 in
theorem wk_X0_entry_b34 {X : Fx} {K : Int64 → Hp → Prop} (C : Cx X cX0_entry yX0_entry.cls 7 7) (Rr : Rx X (Option.some Jvm.ClassFile.FieldType.long) (pJ K)) (N : Nm X yX0_entry.name) (h : Hp) (l2 : Int32) (l3 : Int32) (l4 : Int32) (s0 : Option Nat) (w : wp_X0_entry_b34 K h l2 l3 l4 s0) : Gd X h 34 [none, none, some (vI l2), some (vI l3), some (vI l4), none, none] [vR [8, 9, 10] s0] := by
  unfold wp_X0_entry_b34 at w
  rcases w with w | w | w
  · obtain ⟨a139, e140, w⟩ := w
    obtain ⟨k141, w⟩ := w
    refine g_nar 0 [8] rfl e140 (by rw [k141]; decide) ?_
    refine g_callF (As := []) (T := [8]) (st := []) "java/util/HashMap$KeySet" 39 rfl C dX0_entry_34 q667 q702 q704 q27 q706 q669 q668 q705 q703 q701 okn_e2e68a (by decide) (by decide) (Nat.le_of_ble_eq_true rfl) e140 (fun _ => kC rfl k141) rfl (ct_J13_iterator C.glob w) (fun r0 h143 p144 x145 _ => ?_)
    obtain ⟨r142, rfl, w⟩ := p144
    have w := w x145
    change Gd _ _ _ _ (vR [11, 12, 13] r142 :: [])
    refine g_sub [none, none, some none, some none, some none, none, none] [none] rfl rfl ?_
    exact wk_X0_entry_b39 C Rr N _ _ _ _ _ w
  · obtain ⟨a146, e147, w⟩ := w
    obtain ⟨k148, w⟩ := w
    refine g_nar 0 [9] rfl e147 (by rw [k148]; decide) ?_
    refine g_callF (As := []) (T := [9]) (st := []) "java/util/HashMap$EntrySet" 39 rfl C dX0_entry_34 q667 q671 q673 q37 q675 q669 q668 q674 q672 q670 okn_e2e68a (by decide) (by decide) (Nat.le_of_ble_eq_true rfl) e147 (fun _ => kC rfl k148) rfl (ct_J22_iterator C.glob w) (fun r0 h150 p151 x152 _ => ?_)
    obtain ⟨r149, rfl, w⟩ := p151
    have w := w x152
    change Gd _ _ _ _ (vR [11, 12, 13] r149 :: [])
    refine g_sub [none, none, some none, some none, some none, none, none] [none] rfl rfl ?_
    exact wk_X0_entry_b39 C Rr N _ _ _ _ _ w
  · obtain ⟨a153, e154, w⟩ := w
    obtain ⟨k155, w⟩ := w
    refine g_nar 0 [10] rfl e154 (by rw [k155]; decide) ?_
    refine g_callF (As := []) (T := [10]) (st := []) "java/util/LinkedHashMap$LinkedEntrySet" 39 rfl C dX0_entry_34 q667 q720 q722 q38 q724 q669 q668 q723 q721 q719 okn_e2e68a (by decide) (by decide) (Nat.le_of_ble_eq_true rfl) e154 (fun _ => kC rfl k155) rfl (ct_J23_iterator C.glob w) (fun r0 h157 p158 x159 _ => ?_)
    obtain ⟨r156, rfl, w⟩ := p158
    have w := w x159
    change Gd _ _ _ _ (vR [11, 12, 13] r156 :: [])
    refine g_sub [none, none, some none, some none, some none, none, none] [none] rfl rfl ?_
    exact wk_X0_entry_b39 C Rr N _ _ _ _ _ w
def wp_X0_entry (h : Hp) (x0 : Option Nat) (x1 : Int32) (x2 : Int32) (x3 : Int32) (K : Int64 → Hp → Prop) : Prop :=
  ((x1 < 1 → (wp_X0_entry_b19 K h)) ∧ (¬ x1 < 1 → ((2 < x1 → (wp_X0_entry_b19 K h)) ∧ (¬ 2 < x1 → ((x3 < 0 → (wp_X0_entry_b19 K h)) ∧ (¬ x3 < 0 → ((x3 ≤ 1 → (∃ a118, x0 = some a118 ∧ (wp_X0_map h x0 x1 (fun r121 h122 => Ex h h122 → ((∃ a125, r121 = some a125 ∧ (kd h122 a125 = 2 ∧ (wp_J1_entrySet h122 r121 (fun r128 h129 => Ex h122 h129 → (wp_X0_entry_b34 K h129 x2 x3 0 r128))))) ∨ (∃ a132, r121 = some a132 ∧ (kd h122 a132 = 3 ∧ (wp_J2_entrySet h122 r121 (fun r135 h136 => Ex h122 h136 → (wp_X0_entry_b34 K h136 x2 x3 0 r135)))))))))) ∧ (¬ x3 ≤ 1 → (wp_X0_entry_b19 K h)))))))))
set_option maxHeartbeats 4000000 in
theorem wk_X0_entry {X : Fx} {K : Int64 → Hp → Prop} (C : Cx X cX0_entry yX0_entry.cls 7 7) (Rr : Rx X (Option.some Jvm.ClassFile.FieldType.long) (pJ K)) (N : Nm X yX0_entry.name) (h : Hp) (x0 : Option Nat) (x1 : Int32) (x2 : Int32) (x3 : Int32) (w : wp_X0_entry h x0 x1 x2 x3 K) : Gd X h 0 [some (vR [1] x0), some (vI x1), some (vI x2), some (vI x3), none, none, none] [] := by
  unfold wp_X0_entry at w
  refine g_iload_n 1 rfl C dX0_entry_0 rfl ?_
  refine g_iconst 2 rfl C dX0_entry_1 1 rfl ?_
  refine g_icmp_lt 5 19 rfl C dX0_entry_2 rfl (fun u114 => ?_) (fun u114 => ?_)
  · have w := w.1 u114
    refine g_sub [none, none, none, none, none, none, none] [] rfl rfl ?_
    exact wk_X0_entry_b19 C Rr N _ w
  · have w := w.2 u114
    refine g_iload_n 6 rfl C dX0_entry_5 rfl ?_
    refine g_iconst 7 rfl C dX0_entry_6 2 rfl ?_
    refine g_icmp_gt 10 19 rfl C dX0_entry_7 rfl (fun u115 => ?_) (fun u115 => ?_)
    · have w := w.1 u115
      refine g_sub [none, none, none, none, none, none, none] [] rfl rfl ?_
      exact wk_X0_entry_b19 C Rr N _ w
    · have w := w.2 u115
      refine g_iload_n 11 rfl C dX0_entry_10 rfl ?_
      refine g_if_lt 14 19 rfl C dX0_entry_11 rfl (fun u116 => ?_) (fun u116 => ?_)
      · have w := w.1 u116
        refine g_sub [none, none, none, none, none, none, none] [] rfl rfl ?_
        exact wk_X0_entry_b19 C Rr N _ w
      · have w := w.2 u116
        refine g_iload_n 15 rfl C dX0_entry_14 rfl ?_
        refine g_iconst 16 rfl C dX0_entry_15 1 rfl ?_
        refine g_icmp_le 19 23 rfl C dX0_entry_16 rfl (fun u117 => ?_) (fun u117 => ?_)
        · have w := w.1 u117
          refine g_iconst 24 rfl C dX0_entry_23 0 rfl ?_
          refine g_istore 26 rfl C dX0_entry_24 (by decide) (rfl : _ = [some (vR [1] _), some (vI _), some (vI _), some (vI _), some (vI _), none, none]) ?_
          refine g_aload_n 27 rfl C dX0_entry_26 rfl ?_
          refine g_iload_n 28 rfl C dX0_entry_27 rfl ?_
          obtain ⟨a118, e119, w⟩ := w
          refine g_callV (As := [vI _]) (T := [1]) (st := []) "HashHall" 31 rfl C dX0_entry_28 q158 q160 qs0 q9 q161 rfl okn_a136fc (by decide) (by decide) (Nat.le_of_ble_eq_true rfl) e119 (fun q => tC rfl q) rfl (ct_X0_map C.glob w) (fun r0 h122 p123 x124 _ => ?_)
          obtain ⟨r121, rfl, w⟩ := p123
          have w := w x124
          change Gd _ _ _ _ (vR [2, 3] r121 :: [])
          rcases w with w | w
          · obtain ⟨a125, e126, w⟩ := w
            obtain ⟨k127, w⟩ := w
            refine g_callU (As := []) (T := [2, 3]) (st := []) "java/util/HashMap" 34 rfl C dX0_entry_31 q976 q1287 dcl_402f62 q1288 q903 q11 q905 okn_119244 (by decide) (by decide) (Nat.le_of_ble_eq_true rfl) e126 (fun _ => kC rfl k127) rfl (ct_J1_entrySet C.glob w) (fun r0 h129 p130 x131 _ => ?_)
            obtain ⟨r128, rfl, w⟩ := p130
            have w := w x131
            change Gd _ _ _ _ (vR [8, 9, 10] r128 :: [])
            refine g_sub [none, none, some none, some none, some none, none, none] [none] rfl rfl ?_
            exact wk_X0_entry_b34 C Rr N _ _ _ _ _ w
          · obtain ⟨a132, e133, w⟩ := w
            obtain ⟨k134, w⟩ := w
            refine g_nar 0 [3] rfl e133 (by rw [k134]; decide) ?_
            refine g_callU (As := []) (T := [3]) (st := []) "java/util/LinkedHashMap" 34 rfl C dX0_entry_31 q976 q1287 dcl_402f62 q1289 q918 q12 q920 okn_119244 (by decide) (by decide) (Nat.le_of_ble_eq_true rfl) e133 (fun _ => kC rfl k134) rfl (ct_J2_entrySet C.glob w) (fun r0 h136 p137 x138 _ => ?_)
            obtain ⟨r135, rfl, w⟩ := p137
            have w := w x138
            change Gd _ _ _ _ (vR [8, 9, 10] r135 :: [])
            refine g_sub [none, none, some none, some none, some none, none, none] [none] rfl rfl ?_
            exact wk_X0_entry_b34 C Rr N _ _ _ _ _ w
        · have w := w.2 u117
          refine g_sub [none, none, none, none, none, none, none] [] rfl rfl ?_
          exact wk_X0_entry_b19 C Rr N _ w
theorem ct_X0_entry {E : Gx} (GE : Glob E) {h : Hp} {x0 : Option Nat} {x1 : Int32} {x2 : Int32} {x3 : Int32} {K : Int64 → Hp → Prop} (w : wp_X0_entry h x0 x1 x2 x3 K) : Ct E yX0_entry cX0_entry 7 (Option.some Jvm.ClassFile.FieldType.long) 7 [vR [1] x0, vI x1, vI x2, vI x3] h (pJ K) :=
  Ct.of GE (by decide +kernel) (by simp [lvA, t2]) rfl (fun X hX C Rr N => wk_X0_entry C Rr N h x0 x1 x2 x3 w)
def wp_X0_sum_b74 (G27 : Hp → Int64 → Option Nat → Prop) (K : Int64 → Hp → Prop) (h : Hp) (l5 : Option Nat) (s0 : Option Nat) (s1 : Int64) (s2 : Int64) : Prop :=
  (∃ a172, s0 = some a172 ∧ (wp_J5_intValue h s0 (fun r175 h176 => Ex h h176 → (G27 h176 (s2 + (s1 + (r175 : Int32).toInt64)) l5))))
set_option maxHeartbeats 4000000 in
theorem wk_X0_sum_b74 {X : Fx} {K : Int64 → Hp → Prop} (C : Cx X cX0_sum yX0_sum.cls 7 7) (Rr : Rx X (Option.some Jvm.ClassFile.FieldType.long) (pJ K)) (N : Nm X yX0_sum.name) {G27 : Hp → Int64 → Option Nat → Prop} (k27 : ∀ (h : Hp) (l3 : Int64) (l5 : Option Nat), G27 h l3 l5 → Gd X h 27 [none, none, none, some (vL l3), none, some (vR [11, 12, 13] l5), none] []) (h : Hp) (l5 : Option Nat) (s0 : Option Nat) (s1 : Int64) (s2 : Int64) (w : wp_X0_sum_b74 G27 K h l5 s0 s1 s2) : Gd X h 74 [none, none, none, none, none, some (vR [11, 12, 13] l5), none] [vR [4, 60] s0, vL s1, vL s2] := by
  unfold wp_X0_sum_b74 at w
  refine g_cast [4, 60] 77 rfl C dX0_sum_74 q482 co_Integer_4_60 (fun _ _ q => q) ?_
  obtain ⟨a172, e173, w⟩ := w
  refine g_callV (As := []) (T := [4, 60]) (st := [vL _, vL _]) "java/lang/Integer" 80 rfl C dX0_sum_77 q487 q392 q393 q15 q394 rfl okn_6fb5dd (by decide) (by decide) (Nat.le_of_ble_eq_true rfl) e173 (fun q => tC rfl q) rfl (ct_J5_intValue C.glob w) (fun r0 h176 p177 x178 _ => ?_)
  obtain ⟨r175, rfl, w⟩ := p177
  have w := w x178
  change Gd _ _ _ _ (vI r175 :: [vL _, vL _])
  refine g_i2l 81 rfl C dX0_sum_80 ?_
  refine g_ladd 82 rfl C dX0_sum_81 ?_
  refine g_ladd 83 rfl C dX0_sum_82 ?_
  refine g_lstore_n 84 rfl C dX0_sum_83 (by decide) (rfl : _ = [none, none, none, some (vL _), none, some (vR [11, 12, 13] _), none]) ?_
  refine g_goto 27 C dX0_sum_84 rfl ?_
  refine g_sub [none, none, none, some none, none, some none, none] [] rfl rfl ?_
  exact k27 _ _ _ w
def wp_X0_sum_b57 (G27 : Hp → Int64 → Option Nat → Prop) (K : Int64 → Hp → Prop) (h : Hp) (l5 : Option Nat) (l6 : Option Nat) (s0 : Option Nat) (s1 : Int64) : Prop :=
  (∃ a201, s0 = some a201 ∧ (wp_J5_longValue h s0 (fun r204 h205 => Ex h h205 → (∃ a208, l6 = some a208 ∧ (wp_J6_getValue h205 l6 (fun r211 h212 => Ex h205 h212 → (wp_X0_sum_b74 G27 K h212 l5 r211 (r204 * (31 : Int64)) s1)))))))
set_option maxHeartbeats 4000000 in
theorem wk_X0_sum_b57 {X : Fx} {K : Int64 → Hp → Prop} (C : Cx X cX0_sum yX0_sum.cls 7 7) (Rr : Rx X (Option.some Jvm.ClassFile.FieldType.long) (pJ K)) (N : Nm X yX0_sum.name) {G27 : Hp → Int64 → Option Nat → Prop} (k27 : ∀ (h : Hp) (l3 : Int64) (l5 : Option Nat), G27 h l3 l5 → Gd X h 27 [none, none, none, some (vL l3), none, some (vR [11, 12, 13] l5), none] []) (h : Hp) (l5 : Option Nat) (l6 : Option Nat) (s0 : Option Nat) (s1 : Int64) (w : wp_X0_sum_b57 G27 K h l5 l6 s0 s1) : Gd X h 57 [none, none, none, none, none, some (vR [11, 12, 13] l5), some (vR [5, 6, 7] l6)] [vR [4, 60] s0, vL s1] := by
  unfold wp_X0_sum_b57 at w
  refine g_cast [4, 60] 60 rfl C dX0_sum_57 q482 co_Integer_4_60 (fun _ _ q => q) ?_
  obtain ⟨a201, e202, w⟩ := w
  refine g_callV (As := []) (T := [4, 60]) (st := [vL _]) "java/lang/Integer" 63 rfl C dX0_sum_60 q986 q987 q988 q15 q989 rfl okn_4891ff (by decide) (by decide) (Nat.le_of_ble_eq_true rfl) e202 (fun q => tC rfl q) rfl (ct_J5_longValue C.glob w) (fun r0 h205 p206 x207 _ => ?_)
  obtain ⟨r204, rfl, w⟩ := p206
  have w := w x207
  change Gd _ _ _ _ (vL r204 :: [vL _])
  refine g_ldc2 66 rfl C dX0_sum_63 q990 ?_
  refine g_lmul 67 rfl C dX0_sum_66 ?_
  refine g_aload 69 rfl C dX0_sum_67 rfl ?_
  obtain ⟨a208, e209, w⟩ := w
  refine g_known 0 rfl e209 (fun k210 => ?_)
  have k210 : kd _ _ ∈ [5, 6, 7] := k210
  simp only [List.mem_cons, List.not_mem_nil, or_false] at k210
  rcases k210 with k210 | k210 | k210
  · refine g_callF (As := []) (T := [5, 6, 7]) (st := [vL _, vL _]) "java/util/HashMap$Node" 74 rfl C dX0_sum_69 q981 q963 q965 q19 q967 q962 q961 q966 q964 q949 okn_b350bc (by decide) (by decide) (Nat.le_of_ble_eq_true rfl) e209 (fun _ => kC rfl k210) rfl (ct_J6_getValue C.glob w) (fun r0 h212 p213 x214 _ => ?_)
    obtain ⟨r211, rfl, w⟩ := p213
    have w := w x214
    change Gd _ _ _ _ (vR [4, 60] r211 :: [vL _, vL _])
    refine g_sub [none, none, none, none, none, some none, none] [none, none, none] rfl rfl ?_
    exact wk_X0_sum_b74 C Rr N k27 _ _ _ _ _ w
  · refine g_callF (As := []) (T := [5, 6, 7]) (st := [vL _, vL _]) "java/util/LinkedHashMap$Entry" 74 rfl C dX0_sum_69 q981 q970 q965 q19 q967 q962 q961 q966 q971 q956 okn_b350bc (by decide) (by decide) (Nat.le_of_ble_eq_true rfl) e209 (fun _ => kC rfl k210) rfl (ct_J6_getValue C.glob w) (fun r0 h212 p213 x214 _ => ?_)
    obtain ⟨r211, rfl, w⟩ := p213
    have w := w x214
    change Gd _ _ _ _ (vR [4, 60] r211 :: [vL _, vL _])
    refine g_sub [none, none, none, none, none, some none, none] [none, none, none] rfl rfl ?_
    exact wk_X0_sum_b74 C Rr N k27 _ _ _ _ _ w
  · refine g_callF (As := []) (T := [5, 6, 7]) (st := [vL _, vL _]) "java/util/HashMap$TreeNode" 74 rfl C dX0_sum_69 q981 q968 q965 q19 q967 q962 q961 q966 q969 q953 okn_b350bc (by decide) (by decide) (Nat.le_of_ble_eq_true rfl) e209 (fun _ => kC rfl k210) rfl (ct_J6_getValue C.glob w) (fun r0 h212 p213 x214 _ => ?_)
    obtain ⟨r211, rfl, w⟩ := p213
    have w := w x214
    change Gd _ _ _ _ (vR [4, 60] r211 :: [vL _, vL _])
    refine g_sub [none, none, none, none, none, some none, none] [none, none, none] rfl rfl ?_
    exact wk_X0_sum_b74 C Rr N k27 _ _ _ _ _ w
def wp_X0_sum_b44 (G27 : Hp → Int64 → Option Nat → Prop) (K : Int64 → Hp → Prop) (h : Hp) (l3 : Int64) (l5 : Option Nat) (s0 : Option Nat) : Prop :=
  ((∀ a, s0 = some a → kd h a ∈ [5, 6, 7]) ∧ (∃ a194, s0 = some a194 ∧ (wp_J6_getKey h s0 (fun r197 h198 => Ex h h198 → (wp_X0_sum_b57 G27 K h198 l5 s0 r197 l3)))))
set_option maxHeartbeats 4000000 in
theorem wk_X0_sum_b44 {X : Fx} {K : Int64 → Hp → Prop} (C : Cx X cX0_sum yX0_sum.cls 7 7) (Rr : Rx X (Option.some Jvm.ClassFile.FieldType.long) (pJ K)) (N : Nm X yX0_sum.name) {G27 : Hp → Int64 → Option Nat → Prop} (k27 : ∀ (h : Hp) (l3 : Int64) (l5 : Option Nat), G27 h l3 l5 → Gd X h 27 [none, none, none, some (vL l3), none, some (vR [11, 12, 13] l5), none] []) (h : Hp) (l3 : Int64) (l5 : Option Nat) (s0 : Option Nat) (w : wp_X0_sum_b44 G27 K h l3 l5 s0) : Gd X h 44 [none, none, none, some (vL l3), none, some (vR [11, 12, 13] l5), none] [vR [4, 5, 6, 7, 60] s0] := by
  unfold wp_X0_sum_b44 at w
  obtain ⟨k193, w⟩ := w
  refine g_cast [5, 6, 7] 47 rfl C dX0_sum_44 q977 co_Map_Entry_5_6_7 (fun a q _ => k193 a q) ?_
  refine g_astore 49 rfl C dX0_sum_47 (by decide) (rfl : _ = [none, none, none, some (vL _), none, some (vR [11, 12, 13] _), some (vR [5, 6, 7] _)]) ?_
  refine g_lload_n 50 rfl C dX0_sum_49 rfl ?_
  refine g_aload 52 rfl C dX0_sum_50 rfl ?_
  obtain ⟨a194, e195, w⟩ := w
  refine g_known 0 rfl e195 (fun k196 => ?_)
  have k196 : kd _ _ ∈ [5, 6, 7] := k196
  simp only [List.mem_cons, List.not_mem_nil, or_false] at k196
  rcases k196 with k196 | k196 | k196
  · refine g_callF (As := []) (T := [5, 6, 7]) (st := [vL _]) "java/util/HashMap$Node" 57 rfl C dX0_sum_52 q979 q950 q845 q19 q846 q948 q947 q952 q951 q949 okn_e82fcc (by decide) (by decide) (Nat.le_of_ble_eq_true rfl) e195 (fun _ => kC rfl k196) rfl (ct_J6_getKey C.glob w) (fun r0 h198 p199 x200 _ => ?_)
    obtain ⟨r197, rfl, w⟩ := p199
    have w := w x200
    change Gd _ _ _ _ (vR [4, 60] r197 :: [vL _])
    refine g_sub [none, none, none, none, none, some none, some none] [none, none] rfl rfl ?_
    exact wk_X0_sum_b57 C Rr N k27 _ _ _ _ _ w
  · refine g_callF (As := []) (T := [5, 6, 7]) (st := [vL _]) "java/util/LinkedHashMap$Entry" 57 rfl C dX0_sum_52 q979 q957 q845 q19 q846 q948 q947 q952 q958 q956 okn_e82fcc (by decide) (by decide) (Nat.le_of_ble_eq_true rfl) e195 (fun _ => kC rfl k196) rfl (ct_J6_getKey C.glob w) (fun r0 h198 p199 x200 _ => ?_)
    obtain ⟨r197, rfl, w⟩ := p199
    have w := w x200
    change Gd _ _ _ _ (vR [4, 60] r197 :: [vL _])
    refine g_sub [none, none, none, none, none, some none, some none] [none, none] rfl rfl ?_
    exact wk_X0_sum_b57 C Rr N k27 _ _ _ _ _ w
  · refine g_callF (As := []) (T := [5, 6, 7]) (st := [vL _]) "java/util/HashMap$TreeNode" 57 rfl C dX0_sum_52 q979 q954 q845 q19 q846 q948 q947 q952 q955 q953 okn_e82fcc (by decide) (by decide) (Nat.le_of_ble_eq_true rfl) e195 (fun _ => kC rfl k196) rfl (ct_J6_getKey C.glob w) (fun r0 h198 p199 x200 _ => ?_)
    obtain ⟨r197, rfl, w⟩ := p199
    have w := w x200
    change Gd _ _ _ _ (vR [4, 60] r197 :: [vL _])
    refine g_sub [none, none, none, none, none, some none, some none] [none, none] rfl rfl ?_
    exact wk_X0_sum_b57 C Rr N k27 _ _ _ _ _ w
def wp_X0_sum_b34 (G27 : Hp → Int64 → Option Nat → Prop) (K : Int64 → Hp → Prop) (h : Hp) (l3 : Int64) (l5 : Option Nat) (s0 : Int32) : Prop :=
  ((s0 = 0 → (K l3 h)) ∧ (¬ s0 = 0 → ((∃ a130, l5 = some a130 ∧ (kd h a130 = 11 ∧ (wp_J17_next h l5 (fun r133 h134 => Ex h h134 → (wp_X0_sum_b44 G27 K h134 l3 l5 r133))))) ∨ (∃ a137, l5 = some a137 ∧ (kd h a137 = 12 ∧ (wp_J16_next h l5 (fun r140 h141 => Ex h h141 → (wp_X0_sum_b44 G27 K h141 l3 l5 r140))))) ∨ (∃ a144, l5 = some a144 ∧ (kd h a144 = 13 ∧ (wp_J19_next h l5 (fun r147 h148 => Ex h h148 → (wp_X0_sum_b44 G27 K h148 l3 l5 r147))))))))
set_option maxHeartbeats 4000000 in
theorem wk_X0_sum_b34 {X : Fx} {K : Int64 → Hp → Prop} (C : Cx X cX0_sum yX0_sum.cls 7 7) (Rr : Rx X (Option.some Jvm.ClassFile.FieldType.long) (pJ K)) (N : Nm X yX0_sum.name) {G27 : Hp → Int64 → Option Nat → Prop} (k27 : ∀ (h : Hp) (l3 : Int64) (l5 : Option Nat), G27 h l3 l5 → Gd X h 27 [none, none, none, some (vL l3), none, some (vR [11, 12, 13] l5), none] []) (h : Hp) (l3 : Int64) (l5 : Option Nat) (s0 : Int32) (w : wp_X0_sum_b34 G27 K h l3 l5 s0) : Gd X h 34 [none, none, none, some (vL l3), none, some (vR [11, 12, 13] l5), none] [vI s0] := by
  unfold wp_X0_sum_b34 at w
  refine g_if_eq 37 87 rfl C dX0_sum_34 rfl (fun u129 => ?_) (fun u129 => ?_)
  · have w := w.1 u129
    refine g_lload_n 88 rfl C dX0_sum_87 rfl ?_
    exact g_lreturn C Rr dX0_sum_88 ⟨_, rfl, w⟩
  · have w := w.2 u129
    refine g_aload 39 rfl C dX0_sum_37 rfl ?_
    rcases w with w | w | w
    · obtain ⟨a130, e131, w⟩ := w
      obtain ⟨k132, w⟩ := w
      refine g_nar 0 [11] rfl e131 (by rw [k132]; decide) ?_
      refine g_callF (As := []) (T := [11]) (st := []) "java/util/HashMap$KeyIterator" 44 rfl C dX0_sum_39 q791 q809 q811 q31 q813 q793 q792 q812 q810 q778 okn_a0cf24 (by decide) (by decide) (Nat.le_of_ble_eq_true rfl) e131 (fun _ => kC rfl k132) rfl (ct_J17_next C.glob w) (fun r0 h134 p135 x136 _ => ?_)
      obtain ⟨r133, rfl, w⟩ := p135
      have w := w x136
      change Gd _ _ _ _ (vR [4, 60] r133 :: [])
      refine g_sub [none, none, none, some none, none, some none, none] [some [4, 5, 6, 7, 60]] rfl rfl ?_
      exact wk_X0_sum_b44 C Rr N k27 _ _ _ _ w
    · obtain ⟨a137, e138, w⟩ := w
      obtain ⟨k139, w⟩ := w
      refine g_nar 0 [12] rfl e138 (by rw [k139]; decide) ?_
      refine g_callF (As := []) (T := [12]) (st := []) "java/util/HashMap$EntryIterator" 44 rfl C dX0_sum_39 q791 q794 q796 q30 q798 q793 q792 q797 q795 q772 okn_a0cf24 (by decide) (by decide) (Nat.le_of_ble_eq_true rfl) e138 (fun _ => kC rfl k139) rfl (ct_J16_next C.glob w) (fun r0 h141 p142 x143 _ => ?_)
      obtain ⟨r140, rfl, w⟩ := p142
      have w := w x143
      change Gd _ _ _ _ (vR [5, 6, 7] r140 :: [])
      refine g_sub [none, none, none, some none, none, some none, none] [some [4, 5, 6, 7, 60]] rfl rfl ?_
      exact wk_X0_sum_b44 C Rr N k27 _ _ _ _ w
    · obtain ⟨a144, e145, w⟩ := w
      obtain ⟨k146, w⟩ := w
      refine g_nar 0 [13] rfl e145 (by rw [k146]; decide) ?_
      refine g_callF (As := []) (T := [13]) (st := []) "java/util/LinkedHashMap$LinkedEntryIterator" 44 rfl C dX0_sum_39 q791 q817 q819 q33 q821 q793 q792 q820 q818 q781 okn_a0cf24 (by decide) (by decide) (Nat.le_of_ble_eq_true rfl) e145 (fun _ => kC rfl k146) rfl (ct_J19_next C.glob w) (fun r0 h148 p149 x150 _ => ?_)
      obtain ⟨r147, rfl, w⟩ := p149
      have w := w x150
      change Gd _ _ _ _ (vR [6, 7] r147 :: [])
      refine g_sub [none, none, none, some none, none, some none, none] [some [4, 5, 6, 7, 60]] rfl rfl ?_
      exact wk_X0_sum_b44 C Rr N k27 _ _ _ _ w
def wp_X0_sum_b27 (K : Int64 → Hp → Prop) : Nat → Hp → Int64 → Option Nat → Prop
  | 0 => fun _ _ _ => False
  | m9 + 1 => fun h l3 l5 =>
    ((∃ a179, l5 = some a179 ∧ (kd h a179 ∈ [11, 12] ∧ (wp_J15_hasNext h l5 (fun r182 h183 => Ex h h183 → (wp_X0_sum_b34 (wp_X0_sum_b27 K m9) K h183 l3 l5 r182))))) ∨ (∃ a186, l5 = some a186 ∧ (kd h a186 = 13 ∧ (wp_J18_hasNext h l5 (fun r189 h190 => Ex h h190 → (wp_X0_sum_b34 (wp_X0_sum_b27 K m9) K h190 l3 l5 r189))))))
set_option maxHeartbeats 4000000 in
theorem wk_X0_sum_b27 {X : Fx} {K : Int64 → Hp → Prop} (C : Cx X cX0_sum yX0_sum.cls 7 7) (Rr : Rx X (Option.some Jvm.ClassFile.FieldType.long) (pJ K)) (N : Nm X yX0_sum.name) : ∀ (n : Nat) (h : Hp) (l3 : Int64) (l5 : Option Nat), wp_X0_sum_b27 K n h l3 l5 → Gd X h 27 [none, none, none, some (vL l3), none, some (vR [11, 12, 13] l5), none] [] := by
  intro n
  induction n with
  | zero => intro h l3 l5 w; exact w.elim
  | succ n ih =>
    intro h l3 l5 w
    unfold wp_X0_sum_b27 at w
    refine g_aload 29 rfl C dX0_sum_27 rfl ?_
    rcases w with w | w
    · obtain ⟨a179, e180, w⟩ := w
      obtain ⟨k181, w⟩ := w
      have k181 : kd _ _ ∈ [11, 12] := k181
      simp only [List.mem_cons, List.not_mem_nil, or_false] at k181
      rcases k181 with k181 | k181
      · refine g_nar 0 [11, 12] rfl e180 (by rw [k181]; decide) ?_
        refine g_callF (As := []) (T := [11, 12]) (st := []) "java/util/HashMap$KeyIterator" 34 rfl C dX0_sum_29 q769 q779 q775 q29 q777 q771 q770 q776 q780 q778 okn_1bd07e (by decide) (by decide) (Nat.le_of_ble_eq_true rfl) e180 (fun _ => kC rfl k181) rfl (ct_J15_hasNext C.glob w) (fun r0 h183 p184 x185 _ => ?_)
        obtain ⟨r182, rfl, w⟩ := p184
        have w := w x185
        change Gd _ _ _ _ (vI r182 :: [])
        refine g_sub [none, none, none, some none, none, some none, none] [none] rfl rfl ?_
        exact wk_X0_sum_b34 C Rr N ih _ _ _ _ w
      · refine g_nar 0 [11, 12] rfl e180 (by rw [k181]; decide) ?_
        refine g_callF (As := []) (T := [11, 12]) (st := []) "java/util/HashMap$EntryIterator" 34 rfl C dX0_sum_29 q769 q773 q775 q29 q777 q771 q770 q776 q774 q772 okn_1bd07e (by decide) (by decide) (Nat.le_of_ble_eq_true rfl) e180 (fun _ => kC rfl k181) rfl (ct_J15_hasNext C.glob w) (fun r0 h183 p184 x185 _ => ?_)
        obtain ⟨r182, rfl, w⟩ := p184
        have w := w x185
        change Gd _ _ _ _ (vI r182 :: [])
        refine g_sub [none, none, none, some none, none, some none, none] [none] rfl rfl ?_
        exact wk_X0_sum_b34 C Rr N ih _ _ _ _ w
    · obtain ⟨a186, e187, w⟩ := w
      obtain ⟨k188, w⟩ := w
      refine g_nar 0 [13] rfl e187 (by rw [k188]; decide) ?_
      refine g_callF (As := []) (T := [13]) (st := []) "java/util/LinkedHashMap$LinkedEntryIterator" 34 rfl C dX0_sum_29 q769 q782 q784 q32 q786 q771 q770 q785 q783 q781 okn_1bd07e (by decide) (by decide) (Nat.le_of_ble_eq_true rfl) e187 (fun _ => kC rfl k188) rfl (ct_J18_hasNext C.glob w) (fun r0 h190 p191 x192 _ => ?_)
      obtain ⟨r189, rfl, w⟩ := p191
      have w := w x192
      change Gd _ _ _ _ (vI r189 :: [])
      refine g_sub [none, none, none, some none, none, some none, none] [none] rfl rfl ?_
      exact wk_X0_sum_b34 C Rr N ih _ _ _ _ w
def wp_X0_sum_b25 (K : Int64 → Hp → Prop) (h : Hp) (l3 : Int64) (s0 : Option Nat) : Prop :=
  (∃ n, wp_X0_sum_b27 K n h l3 s0)
set_option maxHeartbeats 4000000 in
theorem wk_X0_sum_b25 {X : Fx} {K : Int64 → Hp → Prop} (C : Cx X cX0_sum yX0_sum.cls 7 7) (Rr : Rx X (Option.some Jvm.ClassFile.FieldType.long) (pJ K)) (N : Nm X yX0_sum.name) (h : Hp) (l3 : Int64) (s0 : Option Nat) (w : wp_X0_sum_b25 K h l3 s0) : Gd X h 25 [none, none, none, some (vL l3), none, none, none] [vR [11, 12, 13] s0] := by
  unfold wp_X0_sum_b25 at w
  refine g_astore 27 rfl C dX0_sum_25 (by decide) (rfl : _ = [none, none, none, some (vL _), none, some (vR [11, 12, 13] _), none]) ?_
  refine g_sub [none, none, none, some none, none, some none, none] [] rfl rfl ?_
  obtain ⟨n9, w⟩ := w
  exact wk_X0_sum_b27 C Rr N n9 _ _ _ w
def wp_X0_sum_b20 (K : Int64 → Hp → Prop) (h : Hp) (l3 : Int64) (s0 : Option Nat) : Prop :=
  ((∃ a151, s0 = some a151 ∧ (kd h a151 = 8 ∧ (wp_J13_iterator h s0 (fun r154 h155 => Ex h h155 → (wp_X0_sum_b25 K h155 l3 r154))))) ∨ (∃ a158, s0 = some a158 ∧ (kd h a158 = 9 ∧ (wp_J22_iterator h s0 (fun r161 h162 => Ex h h162 → (wp_X0_sum_b25 K h162 l3 r161))))) ∨ (∃ a165, s0 = some a165 ∧ (kd h a165 = 10 ∧ (wp_J23_iterator h s0 (fun r168 h169 => Ex h h169 → (wp_X0_sum_b25 K h169 l3 r168))))))
set_option maxHeartbeats 4000000 in
theorem wk_X0_sum_b20 {X : Fx} {K : Int64 → Hp → Prop} (C : Cx X cX0_sum yX0_sum.cls 7 7) (Rr : Rx X (Option.some Jvm.ClassFile.FieldType.long) (pJ K)) (N : Nm X yX0_sum.name) (h : Hp) (l3 : Int64) (s0 : Option Nat) (w : wp_X0_sum_b20 K h l3 s0) : Gd X h 20 [none, none, none, some (vL l3), none, none, none] [vR [8, 9, 10] s0] := by
  unfold wp_X0_sum_b20 at w
  rcases w with w | w | w
  · obtain ⟨a151, e152, w⟩ := w
    obtain ⟨k153, w⟩ := w
    refine g_nar 0 [8] rfl e152 (by rw [k153]; decide) ?_
    refine g_callF (As := []) (T := [8]) (st := []) "java/util/HashMap$KeySet" 25 rfl C dX0_sum_20 q667 q702 q704 q27 q706 q669 q668 q705 q703 q701 okn_e2e68a (by decide) (by decide) (Nat.le_of_ble_eq_true rfl) e152 (fun _ => kC rfl k153) rfl (ct_J13_iterator C.glob w) (fun r0 h155 p156 x157 _ => ?_)
    obtain ⟨r154, rfl, w⟩ := p156
    have w := w x157
    change Gd _ _ _ _ (vR [11, 12, 13] r154 :: [])
    refine g_sub [none, none, none, some none, none, none, none] [none] rfl rfl ?_
    exact wk_X0_sum_b25 C Rr N _ _ _ w
  · obtain ⟨a158, e159, w⟩ := w
    obtain ⟨k160, w⟩ := w
    refine g_nar 0 [9] rfl e159 (by rw [k160]; decide) ?_
    refine g_callF (As := []) (T := [9]) (st := []) "java/util/HashMap$EntrySet" 25 rfl C dX0_sum_20 q667 q671 q673 q37 q675 q669 q668 q674 q672 q670 okn_e2e68a (by decide) (by decide) (Nat.le_of_ble_eq_true rfl) e159 (fun _ => kC rfl k160) rfl (ct_J22_iterator C.glob w) (fun r0 h162 p163 x164 _ => ?_)
    obtain ⟨r161, rfl, w⟩ := p163
    have w := w x164
    change Gd _ _ _ _ (vR [11, 12, 13] r161 :: [])
    refine g_sub [none, none, none, some none, none, none, none] [none] rfl rfl ?_
    exact wk_X0_sum_b25 C Rr N _ _ _ w
  · obtain ⟨a165, e166, w⟩ := w
    obtain ⟨k167, w⟩ := w
    refine g_nar 0 [10] rfl e166 (by rw [k167]; decide) ?_
    refine g_callF (As := []) (T := [10]) (st := []) "java/util/LinkedHashMap$LinkedEntrySet" 25 rfl C dX0_sum_20 q667 q720 q722 q38 q724 q669 q668 q723 q721 q719 okn_e2e68a (by decide) (by decide) (Nat.le_of_ble_eq_true rfl) e166 (fun _ => kC rfl k167) rfl (ct_J23_iterator C.glob w) (fun r0 h169 p170 x171 _ => ?_)
    obtain ⟨r168, rfl, w⟩ := p170
    have w := w x171
    change Gd _ _ _ _ (vR [11, 12, 13] r168 :: [])
    refine g_sub [none, none, none, some none, none, none, none] [none] rfl rfl ?_
    exact wk_X0_sum_b25 C Rr N _ _ _ w
def wp_X0_sum (h : Hp) (x0 : Option Nat) (x1 : Int32) (K : Int64 → Hp → Prop) : Prop :=
  (∃ a110, x0 = some a110 ∧ (wp_X0_map h x0 x1 (fun r113 h114 => Ex h h114 → ((r113 = none → (K (1099511627777 : Int64) h114)) ∧ (∀ a118, r113 = some a118 → ((kd h114 a118 = 2 ∧ (wp_J1_entrySet h114 r113 (fun r120 h121 => Ex h114 h121 → (wp_X0_sum_b20 K h121 0 r120)))) ∨ (kd h114 a118 = 3 ∧ (wp_J2_entrySet h114 r113 (fun r125 h126 => Ex h114 h126 → (wp_X0_sum_b20 K h126 0 r125))))))))))
set_option maxHeartbeats 4000000 in
theorem wk_X0_sum {X : Fx} {K : Int64 → Hp → Prop} (C : Cx X cX0_sum yX0_sum.cls 7 7) (Rr : Rx X (Option.some Jvm.ClassFile.FieldType.long) (pJ K)) (N : Nm X yX0_sum.name) (h : Hp) (x0 : Option Nat) (x1 : Int32) (w : wp_X0_sum h x0 x1 K) : Gd X h 0 [some (vR [1] x0), some (vI x1), none, none, none, none, none] [] := by
  unfold wp_X0_sum at w
  refine g_aload_n 1 rfl C dX0_sum_0 rfl ?_
  refine g_iload_n 2 rfl C dX0_sum_1 rfl ?_
  obtain ⟨a110, e111, w⟩ := w
  refine g_callV (As := [vI _]) (T := [1]) (st := []) "HashHall" 5 rfl C dX0_sum_2 q158 q160 qs0 q9 q161 rfl okn_a136fc (by decide) (by decide) (Nat.le_of_ble_eq_true rfl) e111 (fun q => tC rfl q) rfl (ct_X0_map C.glob w) (fun r0 h114 p115 x116 _ => ?_)
  obtain ⟨r113, rfl, w⟩ := p115
  have w := w x116
  change Gd _ _ _ _ (vR [2, 3] r113 :: [])
  refine g_astore_n 6 rfl C dX0_sum_5 (by decide) (rfl : _ = [some (vR [1] _), some (vI _), some (vR [2, 3] _), none, none, none, none]) ?_
  refine g_aload_n 7 rfl C dX0_sum_6 rfl ?_
  refine g_ifnonnull 10 14 rfl C dX0_sum_7 rfl (fun a118 u117 => ?_) (fun u117 => ?_)
  · have w := w.2 a118 u117
    refine g_lconst 15 rfl C dX0_sum_14 0 rfl ?_
    refine g_lstore_n 16 rfl C dX0_sum_15 (by decide) (rfl : _ = [some (vR [1] _), some (vI _), some (vR [2, 3] _), some (vL _), none, none, none]) ?_
    refine g_aload_n 17 rfl C dX0_sum_16 rfl ?_
    rcases w with w | w
    · obtain ⟨k119, w⟩ := w
      refine g_callU (As := []) (T := [2, 3]) (st := []) "java/util/HashMap" 20 rfl C dX0_sum_17 q976 q1287 dcl_402f62 q1288 q903 q11 q905 okn_119244 (by decide) (by decide) (Nat.le_of_ble_eq_true rfl) u117 (fun _ => kC rfl k119) rfl (ct_J1_entrySet C.glob w) (fun r0 h121 p122 x123 _ => ?_)
      obtain ⟨r120, rfl, w⟩ := p122
      have w := w x123
      change Gd _ _ _ _ (vR [8, 9, 10] r120 :: [])
      refine g_sub [none, none, none, some none, none, none, none] [none] rfl rfl ?_
      exact wk_X0_sum_b20 C Rr N _ _ _ w
    · obtain ⟨k124, w⟩ := w
      refine g_nar 0 [3] rfl u117 (by rw [k124]; decide) ?_
      refine g_callU (As := []) (T := [3]) (st := []) "java/util/LinkedHashMap" 20 rfl C dX0_sum_17 q976 q1287 dcl_402f62 q1289 q918 q12 q920 okn_119244 (by decide) (by decide) (Nat.le_of_ble_eq_true rfl) u117 (fun _ => kC rfl k124) rfl (ct_J2_entrySet C.glob w) (fun r0 h126 p127 x128 _ => ?_)
      obtain ⟨r125, rfl, w⟩ := p127
      have w := w x128
      change Gd _ _ _ _ (vR [8, 9, 10] r125 :: [])
      refine g_sub [none, none, none, some none, none, none, none] [none] rfl rfl ?_
      exact wk_X0_sum_b20 C Rr N _ _ _ w
  · have w := w.1 u117
    refine g_ldc2 13 rfl C dX0_sum_10 q162 ?_
    exact g_lreturn C Rr dX0_sum_13 ⟨_, rfl, w⟩
theorem ct_X0_sum {E : Gx} (GE : Glob E) {h : Hp} {x0 : Option Nat} {x1 : Int32} {K : Int64 → Hp → Prop} (w : wp_X0_sum h x0 x1 K) : Ct E yX0_sum cX0_sum 7 (Option.some Jvm.ClassFile.FieldType.long) 7 [vR [1] x0, vI x1] h (pJ K) :=
  Ct.of GE (by decide +kernel) (by simp [lvA, t2]) rfl (fun X hX C Rr N => wk_X0_sum C Rr N h x0 x1 w)
def wp_X0_sweep_b17 (K : Int32 → Hp → Prop) (h : Hp)  : Prop :=
  (K (-1) h)
set_option maxHeartbeats 4000000 in
theorem wk_X0_sweep_b17 {X : Fx} {K : Int32 → Hp → Prop} (C : Cx X cX0_sweep yX0_sweep.cls 7 9) (Rr : Rx X (Option.some Jvm.ClassFile.FieldType.int) (pI K)) (N : Nm X yX0_sweep.name) (h : Hp)  (w : wp_X0_sweep_b17 K h ) : Gd X h 17 [none, none, none, none, none, none, none] [] := by
  unfold wp_X0_sweep_b17 at w
  refine g_iconst 18 rfl C dX0_sweep_17 (-1) rfl ?_
  exact g_ireturn C Rr dX0_sweep_18 ⟨_, rfl, w⟩
def wp_X0_sweep_b83 (G34 : Hp → Int32 → Int32 → Int32 → Option Nat → Prop) (K : Int32 → Hp → Prop) (h : Hp) (l2 : Int32) (l3 : Int32) (l5 : Int32) (l6 : Option Nat) : Prop :=
  (G34 h l2 l3 (l5 + 1) l6)
set_option maxHeartbeats 4000000 in
theorem wk_X0_sweep_b83 {X : Fx} {K : Int32 → Hp → Prop} (C : Cx X cX0_sweep yX0_sweep.cls 7 9) (Rr : Rx X (Option.some Jvm.ClassFile.FieldType.int) (pI K)) (N : Nm X yX0_sweep.name) {G34 : Hp → Int32 → Int32 → Int32 → Option Nat → Prop} (k34 : ∀ (h : Hp) (l2 : Int32) (l3 : Int32) (l5 : Int32) (l6 : Option Nat), G34 h l2 l3 l5 l6 → Gd X h 34 [none, none, some (vI l2), some (vI l3), none, some (vI l5), some (vR [11, 12, 13] l6)] []) (h : Hp) (l2 : Int32) (l3 : Int32) (l5 : Int32) (l6 : Option Nat) (w : wp_X0_sweep_b83 G34 K h l2 l3 l5 l6) : Gd X h 83 [none, none, some (vI l2), some (vI l3), none, some (vI l5), some (vR [11, 12, 13] l6)] [] := by
  unfold wp_X0_sweep_b83 at w
  refine g_iinc 86 rfl C dX0_sweep_83 rfl _ rfl (by decide) (rfl : _ = [none, none, some (vI _), some (vI _), none, some (vI _), some (vR [11, 12, 13] _)]) ?_
  refine g_goto 34 C dX0_sweep_86 rfl ?_
  refine g_sub [none, none, some none, some none, none, some none, some none] [] rfl rfl ?_
  exact k34 _ _ _ _ _ w
def wp_X0_sweep_b59 (G34 : Hp → Int32 → Int32 → Int32 → Option Nat → Prop) (K : Int32 → Hp → Prop) (h : Hp) (l2 : Int32) (l3 : Int32) (l5 : Int32) (l6 : Option Nat) (s0 : Option Nat) : Prop :=
  (∃ a173, s0 = some a173 ∧ (wp_J5_intValue h s0 (fun r176 h177 => Ex h h177 → (wp_J10_floorMod h177 r176 l2 (fun r181 h182 => Ex h177 h182 → ((r181 = l3 → ((∃ a186, l6 = some a186 ∧ (kd h182 a186 ∈ [11, 12] ∧ (wp_J15_remove h182 l6 (fun h190 => Ex h182 h190 → (wp_X0_sweep_b83 G34 K h190 l2 l3 l5 l6))))) ∨ (∃ a193, l6 = some a193 ∧ (kd h182 a193 = 13 ∧ (wp_J18_remove h182 l6 (fun h197 => Ex h182 h197 → (wp_X0_sweep_b83 G34 K h197 l2 l3 l5 l6))))))) ∧ (¬ r181 = l3 → (G34 h182 l2 l3 l5 l6))))))))
set_option maxHeartbeats 4000000 in
theorem wk_X0_sweep_b59 {X : Fx} {K : Int32 → Hp → Prop} (C : Cx X cX0_sweep yX0_sweep.cls 7 9) (Rr : Rx X (Option.some Jvm.ClassFile.FieldType.int) (pI K)) (N : Nm X yX0_sweep.name) {G34 : Hp → Int32 → Int32 → Int32 → Option Nat → Prop} (k34 : ∀ (h : Hp) (l2 : Int32) (l3 : Int32) (l5 : Int32) (l6 : Option Nat), G34 h l2 l3 l5 l6 → Gd X h 34 [none, none, some (vI l2), some (vI l3), none, some (vI l5), some (vR [11, 12, 13] l6)] []) (h : Hp) (l2 : Int32) (l3 : Int32) (l5 : Int32) (l6 : Option Nat) (s0 : Option Nat) (w : wp_X0_sweep_b59 G34 K h l2 l3 l5 l6 s0) : Gd X h 59 [none, none, some (vI l2), some (vI l3), none, some (vI l5), some (vR [11, 12, 13] l6)] [vR [4, 60] s0] := by
  unfold wp_X0_sweep_b59 at w
  refine g_cast [4, 60] 62 rfl C dX0_sweep_59 q482 co_Integer_4_60 (fun _ _ q => q) ?_
  obtain ⟨a173, e174, w⟩ := w
  refine g_callV (As := []) (T := [4, 60]) (st := []) "java/lang/Integer" 65 rfl C dX0_sweep_62 q487 q392 q393 q15 q394 rfl okn_6fb5dd (by decide) (by decide) (Nat.le_of_ble_eq_true rfl) e174 (fun q => tC rfl q) rfl (ct_J5_intValue C.glob w) (fun r0 h177 p178 x179 _ => ?_)
  obtain ⟨r176, rfl, w⟩ := p178
  have w := w x179
  change Gd _ _ _ _ (vI r176 :: [])
  refine g_iload_n 66 rfl C dX0_sweep_65 rfl ?_
  refine g_callS (As := [vI _, vI _]) (st := []) 69 rfl C dX0_sweep_66 q995 q996 q23 q997 okn_f26e60 (by decide) (by decide) (Nat.le_of_ble_eq_true rfl) rfl (ct_J10_floorMod C.glob w) (fun r0 h182 p183 x184 _ => ?_)
  obtain ⟨r181, rfl, w⟩ := p183
  have w := w x184
  change Gd _ _ _ _ (vI r181 :: [])
  refine g_iload_n 70 rfl C dX0_sweep_69 rfl ?_
  refine g_icmp_eq 73 76 rfl C dX0_sweep_70 rfl (fun u185 => ?_) (fun u185 => ?_)
  · have w := w.1 u185
    refine g_aload 78 rfl C dX0_sweep_76 rfl ?_
    rcases w with w | w
    · obtain ⟨a186, e187, w⟩ := w
      obtain ⟨k188, w⟩ := w
      have k188 : kd _ _ ∈ [11, 12] := k188
      simp only [List.mem_cons, List.not_mem_nil, or_false] at k188
      rcases k188 with k188 | k188
      · refine g_nar 0 [11, 12] rfl e187 (by rw [k188]; decide) ?_
        refine g_callF (As := []) (T := [11, 12]) (st := []) "java/util/HashMap$KeyIterator" 83 rfl C dX0_sweep_78 q999 q1008 q1004 q29 q1006 q1001 q1000 q1005 q1009 q778 okn_52d8a9 (by decide) (by decide) (Nat.le_of_ble_eq_true rfl) e187 (fun _ => kC rfl k188) rfl (ct_J15_remove C.glob w) (fun r0 h190 p191 x192 _ => ?_)
        obtain ⟨rfl, w⟩ := p191
        have w := w x192
        change Gd _ _ _ _ []
        refine g_sub [none, none, some none, some none, none, some none, some none] [] rfl rfl ?_
        exact wk_X0_sweep_b83 C Rr N k34 _ _ _ _ _ w
      · refine g_nar 0 [11, 12] rfl e187 (by rw [k188]; decide) ?_
        refine g_callF (As := []) (T := [11, 12]) (st := []) "java/util/HashMap$EntryIterator" 83 rfl C dX0_sweep_78 q999 q1002 q1004 q29 q1006 q1001 q1000 q1005 q1003 q772 okn_52d8a9 (by decide) (by decide) (Nat.le_of_ble_eq_true rfl) e187 (fun _ => kC rfl k188) rfl (ct_J15_remove C.glob w) (fun r0 h190 p191 x192 _ => ?_)
        obtain ⟨rfl, w⟩ := p191
        have w := w x192
        change Gd _ _ _ _ []
        refine g_sub [none, none, some none, some none, none, some none, some none] [] rfl rfl ?_
        exact wk_X0_sweep_b83 C Rr N k34 _ _ _ _ _ w
    · obtain ⟨a193, e194, w⟩ := w
      obtain ⟨k195, w⟩ := w
      refine g_nar 0 [13] rfl e194 (by rw [k195]; decide) ?_
      refine g_callF (As := []) (T := [13]) (st := []) "java/util/LinkedHashMap$LinkedEntryIterator" 83 rfl C dX0_sweep_78 q999 q1010 q1012 q32 q1014 q1001 q1000 q1013 q1011 q781 okn_52d8a9 (by decide) (by decide) (Nat.le_of_ble_eq_true rfl) e194 (fun _ => kC rfl k195) rfl (ct_J18_remove C.glob w) (fun r0 h197 p198 x199 _ => ?_)
      obtain ⟨rfl, w⟩ := p198
      have w := w x199
      change Gd _ _ _ _ []
      refine g_sub [none, none, some none, some none, none, some none, some none] [] rfl rfl ?_
      exact wk_X0_sweep_b83 C Rr N k34 _ _ _ _ _ w
  · have w := w.2 u185
    refine g_goto 34 C dX0_sweep_73 rfl ?_
    refine g_sub [none, none, some none, some none, none, some none, some none] [] rfl rfl ?_
    exact k34 _ _ _ _ _ w
def wp_X0_sweep_b51 (G34 : Hp → Int32 → Int32 → Int32 → Option Nat → Prop) (K : Int32 → Hp → Prop) (h : Hp) (l2 : Int32) (l3 : Int32) (l5 : Int32) (l6 : Option Nat) (s0 : Option Nat) : Prop :=
  ((∀ a, s0 = some a → kd h a ∈ [5, 6, 7]) ∧ (∃ a201, s0 = some a201 ∧ (wp_J6_getKey h s0 (fun r204 h205 => Ex h h205 → (wp_X0_sweep_b59 G34 K h205 l2 l3 l5 l6 r204)))))
set_option maxHeartbeats 4000000 in
theorem wk_X0_sweep_b51 {X : Fx} {K : Int32 → Hp → Prop} (C : Cx X cX0_sweep yX0_sweep.cls 7 9) (Rr : Rx X (Option.some Jvm.ClassFile.FieldType.int) (pI K)) (N : Nm X yX0_sweep.name) {G34 : Hp → Int32 → Int32 → Int32 → Option Nat → Prop} (k34 : ∀ (h : Hp) (l2 : Int32) (l3 : Int32) (l5 : Int32) (l6 : Option Nat), G34 h l2 l3 l5 l6 → Gd X h 34 [none, none, some (vI l2), some (vI l3), none, some (vI l5), some (vR [11, 12, 13] l6)] []) (h : Hp) (l2 : Int32) (l3 : Int32) (l5 : Int32) (l6 : Option Nat) (s0 : Option Nat) (w : wp_X0_sweep_b51 G34 K h l2 l3 l5 l6 s0) : Gd X h 51 [none, none, some (vI l2), some (vI l3), none, some (vI l5), some (vR [11, 12, 13] l6)] [vR [4, 5, 6, 7, 60] s0] := by
  unfold wp_X0_sweep_b51 at w
  obtain ⟨k200, w⟩ := w
  refine g_cast [5, 6, 7] 54 rfl C dX0_sweep_51 q977 co_Map_Entry_5_6_7 (fun a q _ => k200 a q) ?_
  obtain ⟨a201, e202, w⟩ := w
  refine g_known 0 rfl e202 (fun k203 => ?_)
  have k203 : kd _ _ ∈ [5, 6, 7] := k203
  simp only [List.mem_cons, List.not_mem_nil, or_false] at k203
  rcases k203 with k203 | k203 | k203
  · refine g_callF (As := []) (T := [5, 6, 7]) (st := []) "java/util/HashMap$Node" 59 rfl C dX0_sweep_54 q979 q950 q845 q19 q846 q948 q947 q952 q951 q949 okn_e82fcc (by decide) (by decide) (Nat.le_of_ble_eq_true rfl) e202 (fun _ => kC rfl k203) rfl (ct_J6_getKey C.glob w) (fun r0 h205 p206 x207 _ => ?_)
    obtain ⟨r204, rfl, w⟩ := p206
    have w := w x207
    change Gd _ _ _ _ (vR [4, 60] r204 :: [])
    refine g_sub [none, none, some none, some none, none, some none, some none] [none] rfl rfl ?_
    exact wk_X0_sweep_b59 C Rr N k34 _ _ _ _ _ _ w
  · refine g_callF (As := []) (T := [5, 6, 7]) (st := []) "java/util/LinkedHashMap$Entry" 59 rfl C dX0_sweep_54 q979 q957 q845 q19 q846 q948 q947 q952 q958 q956 okn_e82fcc (by decide) (by decide) (Nat.le_of_ble_eq_true rfl) e202 (fun _ => kC rfl k203) rfl (ct_J6_getKey C.glob w) (fun r0 h205 p206 x207 _ => ?_)
    obtain ⟨r204, rfl, w⟩ := p206
    have w := w x207
    change Gd _ _ _ _ (vR [4, 60] r204 :: [])
    refine g_sub [none, none, some none, some none, none, some none, some none] [none] rfl rfl ?_
    exact wk_X0_sweep_b59 C Rr N k34 _ _ _ _ _ _ w
  · refine g_callF (As := []) (T := [5, 6, 7]) (st := []) "java/util/HashMap$TreeNode" 59 rfl C dX0_sweep_54 q979 q954 q845 q19 q846 q948 q947 q952 q955 q953 okn_e82fcc (by decide) (by decide) (Nat.le_of_ble_eq_true rfl) e202 (fun _ => kC rfl k203) rfl (ct_J6_getKey C.glob w) (fun r0 h205 p206 x207 _ => ?_)
    obtain ⟨r204, rfl, w⟩ := p206
    have w := w x207
    change Gd _ _ _ _ (vR [4, 60] r204 :: [])
    refine g_sub [none, none, some none, some none, none, some none, some none] [none] rfl rfl ?_
    exact wk_X0_sweep_b59 C Rr N k34 _ _ _ _ _ _ w
def wp_X0_sweep_b41 (G34 : Hp → Int32 → Int32 → Int32 → Option Nat → Prop) (K : Int32 → Hp → Prop) (h : Hp) (l2 : Int32) (l3 : Int32) (l5 : Int32) (l6 : Option Nat) (s0 : Int32) : Prop :=
  ((s0 = 0 → (K l5 h)) ∧ (¬ s0 = 0 → ((∃ a152, l6 = some a152 ∧ (kd h a152 = 11 ∧ (wp_J17_next h l6 (fun r155 h156 => Ex h h156 → (wp_X0_sweep_b51 G34 K h156 l2 l3 l5 l6 r155))))) ∨ (∃ a159, l6 = some a159 ∧ (kd h a159 = 12 ∧ (wp_J16_next h l6 (fun r162 h163 => Ex h h163 → (wp_X0_sweep_b51 G34 K h163 l2 l3 l5 l6 r162))))) ∨ (∃ a166, l6 = some a166 ∧ (kd h a166 = 13 ∧ (wp_J19_next h l6 (fun r169 h170 => Ex h h170 → (wp_X0_sweep_b51 G34 K h170 l2 l3 l5 l6 r169))))))))
set_option maxHeartbeats 4000000 in
theorem wk_X0_sweep_b41 {X : Fx} {K : Int32 → Hp → Prop} (C : Cx X cX0_sweep yX0_sweep.cls 7 9) (Rr : Rx X (Option.some Jvm.ClassFile.FieldType.int) (pI K)) (N : Nm X yX0_sweep.name) {G34 : Hp → Int32 → Int32 → Int32 → Option Nat → Prop} (k34 : ∀ (h : Hp) (l2 : Int32) (l3 : Int32) (l5 : Int32) (l6 : Option Nat), G34 h l2 l3 l5 l6 → Gd X h 34 [none, none, some (vI l2), some (vI l3), none, some (vI l5), some (vR [11, 12, 13] l6)] []) (h : Hp) (l2 : Int32) (l3 : Int32) (l5 : Int32) (l6 : Option Nat) (s0 : Int32) (w : wp_X0_sweep_b41 G34 K h l2 l3 l5 l6 s0) : Gd X h 41 [none, none, some (vI l2), some (vI l3), none, some (vI l5), some (vR [11, 12, 13] l6)] [vI s0] := by
  unfold wp_X0_sweep_b41 at w
  refine g_if_eq 44 89 rfl C dX0_sweep_41 rfl (fun u151 => ?_) (fun u151 => ?_)
  · have w := w.1 u151
    refine g_iload 91 rfl C dX0_sweep_89 rfl ?_
    exact g_ireturn C Rr dX0_sweep_91 ⟨_, rfl, w⟩
  · have w := w.2 u151
    refine g_aload 46 rfl C dX0_sweep_44 rfl ?_
    rcases w with w | w | w
    · obtain ⟨a152, e153, w⟩ := w
      obtain ⟨k154, w⟩ := w
      refine g_nar 0 [11] rfl e153 (by rw [k154]; decide) ?_
      refine g_callF (As := []) (T := [11]) (st := []) "java/util/HashMap$KeyIterator" 51 rfl C dX0_sweep_46 q791 q809 q811 q31 q813 q793 q792 q812 q810 q778 okn_a0cf24 (by decide) (by decide) (Nat.le_of_ble_eq_true rfl) e153 (fun _ => kC rfl k154) rfl (ct_J17_next C.glob w) (fun r0 h156 p157 x158 _ => ?_)
      obtain ⟨r155, rfl, w⟩ := p157
      have w := w x158
      change Gd _ _ _ _ (vR [4, 60] r155 :: [])
      refine g_sub [none, none, some none, some none, none, some none, some none] [some [4, 5, 6, 7, 60]] rfl rfl ?_
      exact wk_X0_sweep_b51 C Rr N k34 _ _ _ _ _ _ w
    · obtain ⟨a159, e160, w⟩ := w
      obtain ⟨k161, w⟩ := w
      refine g_nar 0 [12] rfl e160 (by rw [k161]; decide) ?_
      refine g_callF (As := []) (T := [12]) (st := []) "java/util/HashMap$EntryIterator" 51 rfl C dX0_sweep_46 q791 q794 q796 q30 q798 q793 q792 q797 q795 q772 okn_a0cf24 (by decide) (by decide) (Nat.le_of_ble_eq_true rfl) e160 (fun _ => kC rfl k161) rfl (ct_J16_next C.glob w) (fun r0 h163 p164 x165 _ => ?_)
      obtain ⟨r162, rfl, w⟩ := p164
      have w := w x165
      change Gd _ _ _ _ (vR [5, 6, 7] r162 :: [])
      refine g_sub [none, none, some none, some none, none, some none, some none] [some [4, 5, 6, 7, 60]] rfl rfl ?_
      exact wk_X0_sweep_b51 C Rr N k34 _ _ _ _ _ _ w
    · obtain ⟨a166, e167, w⟩ := w
      obtain ⟨k168, w⟩ := w
      refine g_nar 0 [13] rfl e167 (by rw [k168]; decide) ?_
      refine g_callF (As := []) (T := [13]) (st := []) "java/util/LinkedHashMap$LinkedEntryIterator" 51 rfl C dX0_sweep_46 q791 q817 q819 q33 q821 q793 q792 q820 q818 q781 okn_a0cf24 (by decide) (by decide) (Nat.le_of_ble_eq_true rfl) e167 (fun _ => kC rfl k168) rfl (ct_J19_next C.glob w) (fun r0 h170 p171 x172 _ => ?_)
      obtain ⟨r169, rfl, w⟩ := p171
      have w := w x172
      change Gd _ _ _ _ (vR [6, 7] r169 :: [])
      refine g_sub [none, none, some none, some none, none, some none, some none] [some [4, 5, 6, 7, 60]] rfl rfl ?_
      exact wk_X0_sweep_b51 C Rr N k34 _ _ _ _ _ _ w
def wp_X0_sweep_b34 (K : Int32 → Hp → Prop) : Nat → Hp → Int32 → Int32 → Int32 → Option Nat → Prop
  | 0 => fun _ _ _ _ _ => False
  | m9 + 1 => fun h l2 l3 l5 l6 =>
    ((∃ a137, l6 = some a137 ∧ (kd h a137 ∈ [11, 12] ∧ (wp_J15_hasNext h l6 (fun r140 h141 => Ex h h141 → (wp_X0_sweep_b41 (wp_X0_sweep_b34 K m9) K h141 l2 l3 l5 l6 r140))))) ∨ (∃ a144, l6 = some a144 ∧ (kd h a144 = 13 ∧ (wp_J18_hasNext h l6 (fun r147 h148 => Ex h h148 → (wp_X0_sweep_b41 (wp_X0_sweep_b34 K m9) K h148 l2 l3 l5 l6 r147))))))
set_option maxHeartbeats 4000000 in
theorem wk_X0_sweep_b34 {X : Fx} {K : Int32 → Hp → Prop} (C : Cx X cX0_sweep yX0_sweep.cls 7 9) (Rr : Rx X (Option.some Jvm.ClassFile.FieldType.int) (pI K)) (N : Nm X yX0_sweep.name) : ∀ (n : Nat) (h : Hp) (l2 : Int32) (l3 : Int32) (l5 : Int32) (l6 : Option Nat), wp_X0_sweep_b34 K n h l2 l3 l5 l6 → Gd X h 34 [none, none, some (vI l2), some (vI l3), none, some (vI l5), some (vR [11, 12, 13] l6)] [] := by
  intro n
  induction n with
  | zero => intro h l2 l3 l5 l6 w; exact w.elim
  | succ n ih =>
    intro h l2 l3 l5 l6 w
    unfold wp_X0_sweep_b34 at w
    refine g_aload 36 rfl C dX0_sweep_34 rfl ?_
    rcases w with w | w
    · obtain ⟨a137, e138, w⟩ := w
      obtain ⟨k139, w⟩ := w
      have k139 : kd _ _ ∈ [11, 12] := k139
      simp only [List.mem_cons, List.not_mem_nil, or_false] at k139
      rcases k139 with k139 | k139
      · refine g_nar 0 [11, 12] rfl e138 (by rw [k139]; decide) ?_
        refine g_callF (As := []) (T := [11, 12]) (st := []) "java/util/HashMap$KeyIterator" 41 rfl C dX0_sweep_36 q769 q779 q775 q29 q777 q771 q770 q776 q780 q778 okn_1bd07e (by decide) (by decide) (Nat.le_of_ble_eq_true rfl) e138 (fun _ => kC rfl k139) rfl (ct_J15_hasNext C.glob w) (fun r0 h141 p142 x143 _ => ?_)
        obtain ⟨r140, rfl, w⟩ := p142
        have w := w x143
        change Gd _ _ _ _ (vI r140 :: [])
        refine g_sub [none, none, some none, some none, none, some none, some none] [none] rfl rfl ?_
        exact wk_X0_sweep_b41 C Rr N ih _ _ _ _ _ _ w
      · refine g_nar 0 [11, 12] rfl e138 (by rw [k139]; decide) ?_
        refine g_callF (As := []) (T := [11, 12]) (st := []) "java/util/HashMap$EntryIterator" 41 rfl C dX0_sweep_36 q769 q773 q775 q29 q777 q771 q770 q776 q774 q772 okn_1bd07e (by decide) (by decide) (Nat.le_of_ble_eq_true rfl) e138 (fun _ => kC rfl k139) rfl (ct_J15_hasNext C.glob w) (fun r0 h141 p142 x143 _ => ?_)
        obtain ⟨r140, rfl, w⟩ := p142
        have w := w x143
        change Gd _ _ _ _ (vI r140 :: [])
        refine g_sub [none, none, some none, some none, none, some none, some none] [none] rfl rfl ?_
        exact wk_X0_sweep_b41 C Rr N ih _ _ _ _ _ _ w
    · obtain ⟨a144, e145, w⟩ := w
      obtain ⟨k146, w⟩ := w
      refine g_nar 0 [13] rfl e145 (by rw [k146]; decide) ?_
      refine g_callF (As := []) (T := [13]) (st := []) "java/util/LinkedHashMap$LinkedEntryIterator" 41 rfl C dX0_sweep_36 q769 q782 q784 q32 q786 q771 q770 q785 q783 q781 okn_1bd07e (by decide) (by decide) (Nat.le_of_ble_eq_true rfl) e145 (fun _ => kC rfl k146) rfl (ct_J18_hasNext C.glob w) (fun r0 h148 p149 x150 _ => ?_)
      obtain ⟨r147, rfl, w⟩ := p149
      have w := w x150
      change Gd _ _ _ _ (vI r147 :: [])
      refine g_sub [none, none, some none, some none, none, some none, some none] [none] rfl rfl ?_
      exact wk_X0_sweep_b41 C Rr N ih _ _ _ _ _ _ w
def wp_X0_sweep_b32 (K : Int32 → Hp → Prop) (h : Hp) (l2 : Int32) (l3 : Int32) (l5 : Int32) (s0 : Option Nat) : Prop :=
  (∃ n, wp_X0_sweep_b34 K n h l2 l3 l5 s0)
set_option maxHeartbeats 4000000 in
theorem wk_X0_sweep_b32 {X : Fx} {K : Int32 → Hp → Prop} (C : Cx X cX0_sweep yX0_sweep.cls 7 9) (Rr : Rx X (Option.some Jvm.ClassFile.FieldType.int) (pI K)) (N : Nm X yX0_sweep.name) (h : Hp) (l2 : Int32) (l3 : Int32) (l5 : Int32) (s0 : Option Nat) (w : wp_X0_sweep_b32 K h l2 l3 l5 s0) : Gd X h 32 [none, none, some (vI l2), some (vI l3), none, some (vI l5), none] [vR [11, 12, 13] s0] := by
  unfold wp_X0_sweep_b32 at w
  refine g_astore 34 rfl C dX0_sweep_32 (by decide) (rfl : _ = [none, none, some (vI _), some (vI _), none, some (vI _), some (vR [11, 12, 13] _)]) ?_
  refine g_sub [none, none, some none, some none, none, some none, some none] [] rfl rfl ?_
  obtain ⟨n9, w⟩ := w
  exact wk_X0_sweep_b34 C Rr N n9 _ _ _ _ _ w
def wp_X0_sweep_b27 (K : Int32 → Hp → Prop) (h : Hp) (l2 : Int32) (l3 : Int32) (l5 : Int32) (s0 : Option Nat) : Prop :=
  ((∃ a208, s0 = some a208 ∧ (kd h a208 = 8 ∧ (wp_J13_iterator h s0 (fun r211 h212 => Ex h h212 → (wp_X0_sweep_b32 K h212 l2 l3 l5 r211))))) ∨ (∃ a215, s0 = some a215 ∧ (kd h a215 = 9 ∧ (wp_J22_iterator h s0 (fun r218 h219 => Ex h h219 → (wp_X0_sweep_b32 K h219 l2 l3 l5 r218))))) ∨ (∃ a222, s0 = some a222 ∧ (kd h a222 = 10 ∧ (wp_J23_iterator h s0 (fun r225 h226 => Ex h h226 → (wp_X0_sweep_b32 K h226 l2 l3 l5 r225))))))
set_option maxHeartbeats 4000000 in
theorem wk_X0_sweep_b27 {X : Fx} {K : Int32 → Hp → Prop} (C : Cx X cX0_sweep yX0_sweep.cls 7 9) (Rr : Rx X (Option.some Jvm.ClassFile.FieldType.int) (pI K)) (N : Nm X yX0_sweep.name) (h : Hp) (l2 : Int32) (l3 : Int32) (l5 : Int32) (s0 : Option Nat) (w : wp_X0_sweep_b27 K h l2 l3 l5 s0) : Gd X h 27 [none, none, some (vI l2), some (vI l3), none, some (vI l5), none] [vR [8, 9, 10] s0] := by
  unfold wp_X0_sweep_b27 at w
  rcases w with w | w | w
  · obtain ⟨a208, e209, w⟩ := w
    obtain ⟨k210, w⟩ := w
    refine g_nar 0 [8] rfl e209 (by rw [k210]; decide) ?_
    refine g_callF (As := []) (T := [8]) (st := []) "java/util/HashMap$KeySet" 32 rfl C dX0_sweep_27 q667 q702 q704 q27 q706 q669 q668 q705 q703 q701 okn_e2e68a (by decide) (by decide) (Nat.le_of_ble_eq_true rfl) e209 (fun _ => kC rfl k210) rfl (ct_J13_iterator C.glob w) (fun r0 h212 p213 x214 _ => ?_)
    obtain ⟨r211, rfl, w⟩ := p213
    have w := w x214
    change Gd _ _ _ _ (vR [11, 12, 13] r211 :: [])
    refine g_sub [none, none, some none, some none, none, some none, none] [none] rfl rfl ?_
    exact wk_X0_sweep_b32 C Rr N _ _ _ _ _ w
  · obtain ⟨a215, e216, w⟩ := w
    obtain ⟨k217, w⟩ := w
    refine g_nar 0 [9] rfl e216 (by rw [k217]; decide) ?_
    refine g_callF (As := []) (T := [9]) (st := []) "java/util/HashMap$EntrySet" 32 rfl C dX0_sweep_27 q667 q671 q673 q37 q675 q669 q668 q674 q672 q670 okn_e2e68a (by decide) (by decide) (Nat.le_of_ble_eq_true rfl) e216 (fun _ => kC rfl k217) rfl (ct_J22_iterator C.glob w) (fun r0 h219 p220 x221 _ => ?_)
    obtain ⟨r218, rfl, w⟩ := p220
    have w := w x221
    change Gd _ _ _ _ (vR [11, 12, 13] r218 :: [])
    refine g_sub [none, none, some none, some none, none, some none, none] [none] rfl rfl ?_
    exact wk_X0_sweep_b32 C Rr N _ _ _ _ _ w
  · obtain ⟨a222, e223, w⟩ := w
    obtain ⟨k224, w⟩ := w
    refine g_nar 0 [10] rfl e223 (by rw [k224]; decide) ?_
    refine g_callF (As := []) (T := [10]) (st := []) "java/util/LinkedHashMap$LinkedEntrySet" 32 rfl C dX0_sweep_27 q667 q720 q722 q38 q724 q669 q668 q723 q721 q719 okn_e2e68a (by decide) (by decide) (Nat.le_of_ble_eq_true rfl) e223 (fun _ => kC rfl k224) rfl (ct_J23_iterator C.glob w) (fun r0 h226 p227 x228 _ => ?_)
    obtain ⟨r225, rfl, w⟩ := p227
    have w := w x228
    change Gd _ _ _ _ (vR [11, 12, 13] r225 :: [])
    refine g_sub [none, none, some none, some none, none, some none, none] [none] rfl rfl ?_
    exact wk_X0_sweep_b32 C Rr N _ _ _ _ _ w
def wp_X0_sweep (h : Hp) (x0 : Option Nat) (x1 : Int32) (x2 : Int32) (x3 : Int32) (K : Int32 → Hp → Prop) : Prop :=
  (∃ a117, x0 = some a117 ∧ (wp_X0_map h x0 x1 (fun r120 h121 => Ex h h121 → ((r120 = none → (wp_X0_sweep_b17 K h121)) ∧ (∀ a125, r120 = some a125 → ((1 ≤ x2 → ((kd h121 a125 = 2 ∧ (wp_J1_entrySet h121 r120 (fun r128 h129 => Ex h121 h129 → (wp_X0_sweep_b27 K h129 x2 x3 0 r128)))) ∨ (kd h121 a125 = 3 ∧ (wp_J2_entrySet h121 r120 (fun r133 h134 => Ex h121 h134 → (wp_X0_sweep_b27 K h134 x2 x3 0 r133)))))) ∧ (¬ 1 ≤ x2 → (wp_X0_sweep_b17 K h121))))))))
set_option maxHeartbeats 4000000 in
theorem wk_X0_sweep {X : Fx} {K : Int32 → Hp → Prop} (C : Cx X cX0_sweep yX0_sweep.cls 7 9) (Rr : Rx X (Option.some Jvm.ClassFile.FieldType.int) (pI K)) (N : Nm X yX0_sweep.name) (h : Hp) (x0 : Option Nat) (x1 : Int32) (x2 : Int32) (x3 : Int32) (w : wp_X0_sweep h x0 x1 x2 x3 K) : Gd X h 0 [some (vR [1] x0), some (vI x1), some (vI x2), some (vI x3), none, none, none] [] := by
  unfold wp_X0_sweep at w
  refine g_aload_n 1 rfl C dX0_sweep_0 rfl ?_
  refine g_iload_n 2 rfl C dX0_sweep_1 rfl ?_
  obtain ⟨a117, e118, w⟩ := w
  refine g_callV (As := [vI _]) (T := [1]) (st := []) "HashHall" 5 rfl C dX0_sweep_2 q158 q160 qs0 q9 q161 rfl okn_a136fc (by decide) (by decide) (Nat.le_of_ble_eq_true rfl) e118 (fun q => tC rfl q) rfl (ct_X0_map C.glob w) (fun r0 h121 p122 x123 _ => ?_)
  obtain ⟨r120, rfl, w⟩ := p122
  have w := w x123
  change Gd _ _ _ _ (vR [2, 3] r120 :: [])
  refine g_astore 7 rfl C dX0_sweep_5 (by decide) (rfl : _ = [some (vR [1] _), some (vI _), some (vI _), some (vI _), some (vR [2, 3] _), none, none]) ?_
  refine g_aload 9 rfl C dX0_sweep_7 rfl ?_
  refine g_ifnull 12 17 rfl C dX0_sweep_9 rfl (fun u124 => ?_) (fun a125 u124 => ?_)
  · have w := w.1 u124
    refine g_sub [none, none, none, none, none, none, none] [] rfl rfl ?_
    exact wk_X0_sweep_b17 C Rr N _ w
  · have w := w.2 a125 u124
    refine g_iload_n 13 rfl C dX0_sweep_12 rfl ?_
    refine g_iconst 14 rfl C dX0_sweep_13 1 rfl ?_
    refine g_icmp_ge 17 19 rfl C dX0_sweep_14 rfl (fun u126 => ?_) (fun u126 => ?_)
    · have w := w.1 u126
      refine g_iconst 20 rfl C dX0_sweep_19 0 rfl ?_
      refine g_istore 22 rfl C dX0_sweep_20 (by decide) (rfl : _ = [some (vR [1] _), some (vI _), some (vI _), some (vI _), some (vR [2, 3] _), some (vI _), none]) ?_
      refine g_aload 24 rfl C dX0_sweep_22 rfl ?_
      rcases w with w | w
      · obtain ⟨k127, w⟩ := w
        refine g_callU (As := []) (T := [2, 3]) (st := []) "java/util/HashMap" 27 rfl C dX0_sweep_24 q976 q1287 dcl_402f62 q1288 q903 q11 q905 okn_119244 (by decide) (by decide) (Nat.le_of_ble_eq_true rfl) u124 (fun _ => kC rfl k127) rfl (ct_J1_entrySet C.glob w) (fun r0 h129 p130 x131 _ => ?_)
        obtain ⟨r128, rfl, w⟩ := p130
        have w := w x131
        change Gd _ _ _ _ (vR [8, 9, 10] r128 :: [])
        refine g_sub [none, none, some none, some none, none, some none, none] [none] rfl rfl ?_
        exact wk_X0_sweep_b27 C Rr N _ _ _ _ _ w
      · obtain ⟨k132, w⟩ := w
        refine g_nar 0 [3] rfl u124 (by rw [k132]; decide) ?_
        refine g_callU (As := []) (T := [3]) (st := []) "java/util/LinkedHashMap" 27 rfl C dX0_sweep_24 q976 q1287 dcl_402f62 q1289 q918 q12 q920 okn_119244 (by decide) (by decide) (Nat.le_of_ble_eq_true rfl) u124 (fun _ => kC rfl k132) rfl (ct_J2_entrySet C.glob w) (fun r0 h134 p135 x136 _ => ?_)
        obtain ⟨r133, rfl, w⟩ := p135
        have w := w x136
        change Gd _ _ _ _ (vR [8, 9, 10] r133 :: [])
        refine g_sub [none, none, some none, some none, none, some none, none] [none] rfl rfl ?_
        exact wk_X0_sweep_b27 C Rr N _ _ _ _ _ w
    · have w := w.2 u126
      refine g_sub [none, none, none, none, none, none, none] [] rfl rfl ?_
      exact wk_X0_sweep_b17 C Rr N _ w
theorem ct_X0_sweep {E : Gx} (GE : Glob E) {h : Hp} {x0 : Option Nat} {x1 : Int32} {x2 : Int32} {x3 : Int32} {K : Int32 → Hp → Prop} (w : wp_X0_sweep h x0 x1 x2 x3 K) : Ct E yX0_sweep cX0_sweep 7 (Option.some Jvm.ClassFile.FieldType.int) 9 [vR [1] x0, vI x1, vI x2, vI x3] h (pI K) :=
  Ct.of GE (by decide +kernel) (by simp [lvA, t2]) rfl (fun X hX C Rr N => wk_X0_sweep C Rr N h x0 x1 x2 x3 w)
def wp_X0_raise_b70 (G23 : Hp → Int32 → Option Nat → Option Nat → Prop) (K : Int32 → Hp → Prop) (h : Hp) (l2 : Int32) (l3 : Option Nat) (l4 : Option Nat) (s0 : Option Nat) : Prop :=
  (G23 h l2 l3 l4)
set_option maxHeartbeats 4000000 in
theorem wk_X0_raise_b70 {X : Fx} {K : Int32 → Hp → Prop} (C : Cx X cX0_raise yX0_raise.cls 6 7) (Rr : Rx X (Option.some Jvm.ClassFile.FieldType.int) (pI K)) (N : Nm X yX0_raise.name) {G23 : Hp → Int32 → Option Nat → Option Nat → Prop} (k23 : ∀ (h : Hp) (l2 : Int32) (l3 : Option Nat) (l4 : Option Nat), G23 h l2 l3 l4 → Gd X h 23 [none, none, some (vI l2), some (vR [2, 3] l3), some (vR [11, 12, 13] l4), none] []) (h : Hp) (l2 : Int32) (l3 : Option Nat) (l4 : Option Nat) (s0 : Option Nat) (w : wp_X0_raise_b70 G23 K h l2 l3 l4 s0) : Gd X h 70 [none, none, some (vI l2), some (vR [2, 3] l3), some (vR [11, 12, 13] l4), none] [vR [4, 60] s0] := by
  unfold wp_X0_raise_b70 at w
  refine g_pop 71 rfl C dX0_raise_70 rfl ?_
  refine g_goto 23 C dX0_raise_71 rfl ?_
  refine g_sub [none, none, some none, some none, some none, none] [] rfl rfl ?_
  exact k23 _ _ _ _ w
def wp_X0_raise_b54 (G23 : Hp → Int32 → Option Nat → Option Nat → Prop) (K : Int32 → Hp → Prop) (h : Hp) (l2 : Int32) (l3 : Option Nat) (l4 : Option Nat) (s0 : Option Nat) (s1 : Option Nat) : Prop :=
  (∃ a163, s0 = some a163 ∧ (wp_J5_intValue h s0 (fun r166 h167 => Ex h h167 → (wp_J5_valueOf h167 (r166 + l2) (fun r171 h172 => Ex h167 h172 → (∃ a175, s1 = some a175 ∧ (wp_J6_setValue h172 s1 r171 (fun r178 h179 => Ex h172 h179 → (wp_X0_raise_b70 G23 K h179 l2 l3 l4 r178)))))))))
set_option maxHeartbeats 4000000 in
theorem wk_X0_raise_b54 {X : Fx} {K : Int32 → Hp → Prop} (C : Cx X cX0_raise yX0_raise.cls 6 7) (Rr : Rx X (Option.some Jvm.ClassFile.FieldType.int) (pI K)) (N : Nm X yX0_raise.name) {G23 : Hp → Int32 → Option Nat → Option Nat → Prop} (k23 : ∀ (h : Hp) (l2 : Int32) (l3 : Option Nat) (l4 : Option Nat), G23 h l2 l3 l4 → Gd X h 23 [none, none, some (vI l2), some (vR [2, 3] l3), some (vR [11, 12, 13] l4), none] []) (h : Hp) (l2 : Int32) (l3 : Option Nat) (l4 : Option Nat) (s0 : Option Nat) (s1 : Option Nat) (w : wp_X0_raise_b54 G23 K h l2 l3 l4 s0 s1) : Gd X h 54 [none, none, some (vI l2), some (vR [2, 3] l3), some (vR [11, 12, 13] l4), none] [vR [4, 60] s0, vR [5, 6, 7] s1] := by
  unfold wp_X0_raise_b54 at w
  refine g_cast [4, 60] 57 rfl C dX0_raise_54 q482 co_Integer_4_60 (fun _ _ q => q) ?_
  obtain ⟨a163, e164, w⟩ := w
  refine g_callV (As := []) (T := [4, 60]) (st := [vR [5, 6, 7] _]) "java/lang/Integer" 60 rfl C dX0_raise_57 q487 q392 q393 q15 q394 rfl okn_6fb5dd (by decide) (by decide) (Nat.le_of_ble_eq_true rfl) e164 (fun q => tC rfl q) rfl (ct_J5_intValue C.glob w) (fun r0 h167 p168 x169 _ => ?_)
  obtain ⟨r166, rfl, w⟩ := p168
  have w := w x169
  change Gd _ _ _ _ (vI r166 :: [vR [5, 6, 7] _])
  refine g_iload_n 61 rfl C dX0_raise_60 rfl ?_
  refine g_iadd 62 rfl C dX0_raise_61 ?_
  refine g_callS (As := [vI _]) (st := [vR [5, 6, 7] _]) 65 rfl C dX0_raise_62 q163 q164 q15 q165 okn_680428 (by decide) (by decide) (Nat.le_of_ble_eq_true rfl) rfl (ct_J5_valueOf C.glob w) (fun r0 h172 p173 x174 _ => ?_)
  obtain ⟨r171, rfl, w⟩ := p173
  have w := w x174
  change Gd _ _ _ _ (vR [4, 60] r171 :: [vR [5, 6, 7] _])
  obtain ⟨a175, e176, w⟩ := w
  refine g_known 1 rfl e176 (fun k177 => ?_)
  have k177 : kd _ _ ∈ [5, 6, 7] := k177
  simp only [List.mem_cons, List.not_mem_nil, or_false] at k177
  rcases k177 with k177 | k177 | k177
  · refine g_callF (As := [vR [4, 60] _]) (T := [5, 6, 7]) (st := []) "java/util/HashMap$Node" 70 rfl C dX0_raise_65 q1026 q1029 q1031 q19 q1033 q1028 q1027 q1032 q1030 q949 okn_30be6f (by decide) (by decide) (Nat.le_of_ble_eq_true rfl) e176 (fun _ => kC rfl k177) rfl (ct_J6_setValue C.glob w) (fun r0 h179 p180 x181 _ => ?_)
    obtain ⟨r178, rfl, w⟩ := p180
    have w := w x181
    change Gd _ _ _ _ (vR [4, 60] r178 :: [])
    refine g_sub [none, none, some none, some none, some none, none] [none] rfl rfl ?_
    exact wk_X0_raise_b70 C Rr N k23 _ _ _ _ _ w
  · refine g_callF (As := [vR [4, 60] _]) (T := [5, 6, 7]) (st := []) "java/util/LinkedHashMap$Entry" 70 rfl C dX0_raise_65 q1026 q1036 q1031 q19 q1033 q1028 q1027 q1032 q1037 q956 okn_30be6f (by decide) (by decide) (Nat.le_of_ble_eq_true rfl) e176 (fun _ => kC rfl k177) rfl (ct_J6_setValue C.glob w) (fun r0 h179 p180 x181 _ => ?_)
    obtain ⟨r178, rfl, w⟩ := p180
    have w := w x181
    change Gd _ _ _ _ (vR [4, 60] r178 :: [])
    refine g_sub [none, none, some none, some none, some none, none] [none] rfl rfl ?_
    exact wk_X0_raise_b70 C Rr N k23 _ _ _ _ _ w
  · refine g_callF (As := [vR [4, 60] _]) (T := [5, 6, 7]) (st := []) "java/util/HashMap$TreeNode" 70 rfl C dX0_raise_65 q1026 q1034 q1031 q19 q1033 q1028 q1027 q1032 q1035 q953 okn_30be6f (by decide) (by decide) (Nat.le_of_ble_eq_true rfl) e176 (fun _ => kC rfl k177) rfl (ct_J6_setValue C.glob w) (fun r0 h179 p180 x181 _ => ?_)
    obtain ⟨r178, rfl, w⟩ := p180
    have w := w x181
    change Gd _ _ _ _ (vR [4, 60] r178 :: [])
    refine g_sub [none, none, some none, some none, some none, none] [none] rfl rfl ?_
    exact wk_X0_raise_b70 C Rr N k23 _ _ _ _ _ w
def wp_X0_raise_b40 (G23 : Hp → Int32 → Option Nat → Option Nat → Prop) (K : Int32 → Hp → Prop) (h : Hp) (l2 : Int32) (l3 : Option Nat) (l4 : Option Nat) (s0 : Option Nat) : Prop :=
  ((∀ a, s0 = some a → kd h a ∈ [5, 6, 7]) ∧ (∃ a135, s0 = some a135 ∧ (wp_J6_getValue h s0 (fun r138 h139 => Ex h h139 → (wp_X0_raise_b54 G23 K h139 l2 l3 l4 r138 s0)))))
set_option maxHeartbeats 4000000 in
theorem wk_X0_raise_b40 {X : Fx} {K : Int32 → Hp → Prop} (C : Cx X cX0_raise yX0_raise.cls 6 7) (Rr : Rx X (Option.some Jvm.ClassFile.FieldType.int) (pI K)) (N : Nm X yX0_raise.name) {G23 : Hp → Int32 → Option Nat → Option Nat → Prop} (k23 : ∀ (h : Hp) (l2 : Int32) (l3 : Option Nat) (l4 : Option Nat), G23 h l2 l3 l4 → Gd X h 23 [none, none, some (vI l2), some (vR [2, 3] l3), some (vR [11, 12, 13] l4), none] []) (h : Hp) (l2 : Int32) (l3 : Option Nat) (l4 : Option Nat) (s0 : Option Nat) (w : wp_X0_raise_b40 G23 K h l2 l3 l4 s0) : Gd X h 40 [none, none, some (vI l2), some (vR [2, 3] l3), some (vR [11, 12, 13] l4), none] [vR [4, 5, 6, 7, 60] s0] := by
  unfold wp_X0_raise_b40 at w
  obtain ⟨k134, w⟩ := w
  refine g_cast [5, 6, 7] 43 rfl C dX0_raise_40 q977 co_Map_Entry_5_6_7 (fun a q _ => k134 a q) ?_
  refine g_astore 45 rfl C dX0_raise_43 (by decide) (rfl : _ = [none, none, some (vI _), some (vR [2, 3] _), some (vR [11, 12, 13] _), some (vR [5, 6, 7] _)]) ?_
  refine g_aload 47 rfl C dX0_raise_45 rfl ?_
  refine g_aload 49 rfl C dX0_raise_47 rfl ?_
  obtain ⟨a135, e136, w⟩ := w
  refine g_known 0 rfl e136 (fun k137 => ?_)
  have k137 : kd _ _ ∈ [5, 6, 7] := k137
  simp only [List.mem_cons, List.not_mem_nil, or_false] at k137
  rcases k137 with k137 | k137 | k137
  · refine g_callF (As := []) (T := [5, 6, 7]) (st := [vR [5, 6, 7] _]) "java/util/HashMap$Node" 54 rfl C dX0_raise_49 q981 q963 q965 q19 q967 q962 q961 q966 q964 q949 okn_b350bc (by decide) (by decide) (Nat.le_of_ble_eq_true rfl) e136 (fun _ => kC rfl k137) rfl (ct_J6_getValue C.glob w) (fun r0 h139 p140 x141 _ => ?_)
    obtain ⟨r138, rfl, w⟩ := p140
    have w := w x141
    change Gd _ _ _ _ (vR [4, 60] r138 :: [vR [5, 6, 7] _])
    refine g_sub [none, none, some none, some none, some none, none] [none, none] rfl rfl ?_
    exact wk_X0_raise_b54 C Rr N k23 _ _ _ _ _ _ w
  · refine g_callF (As := []) (T := [5, 6, 7]) (st := [vR [5, 6, 7] _]) "java/util/LinkedHashMap$Entry" 54 rfl C dX0_raise_49 q981 q970 q965 q19 q967 q962 q961 q966 q971 q956 okn_b350bc (by decide) (by decide) (Nat.le_of_ble_eq_true rfl) e136 (fun _ => kC rfl k137) rfl (ct_J6_getValue C.glob w) (fun r0 h139 p140 x141 _ => ?_)
    obtain ⟨r138, rfl, w⟩ := p140
    have w := w x141
    change Gd _ _ _ _ (vR [4, 60] r138 :: [vR [5, 6, 7] _])
    refine g_sub [none, none, some none, some none, some none, none] [none, none] rfl rfl ?_
    exact wk_X0_raise_b54 C Rr N k23 _ _ _ _ _ _ w
  · refine g_callF (As := []) (T := [5, 6, 7]) (st := [vR [5, 6, 7] _]) "java/util/HashMap$TreeNode" 54 rfl C dX0_raise_49 q981 q968 q965 q19 q967 q962 q961 q966 q969 q953 okn_b350bc (by decide) (by decide) (Nat.le_of_ble_eq_true rfl) e136 (fun _ => kC rfl k137) rfl (ct_J6_getValue C.glob w) (fun r0 h139 p140 x141 _ => ?_)
    obtain ⟨r138, rfl, w⟩ := p140
    have w := w x141
    change Gd _ _ _ _ (vR [4, 60] r138 :: [vR [5, 6, 7] _])
    refine g_sub [none, none, some none, some none, some none, none] [none, none] rfl rfl ?_
    exact wk_X0_raise_b54 C Rr N k23 _ _ _ _ _ _ w
def wp_X0_raise_b78 (K : Int32 → Hp → Prop) (h : Hp) (s0 : Int32) : Prop :=
  (K s0 h)
set_option maxHeartbeats 4000000 in
theorem wk_X0_raise_b78 {X : Fx} {K : Int32 → Hp → Prop} (C : Cx X cX0_raise yX0_raise.cls 6 7) (Rr : Rx X (Option.some Jvm.ClassFile.FieldType.int) (pI K)) (N : Nm X yX0_raise.name) (h : Hp) (s0 : Int32) (w : wp_X0_raise_b78 K h s0) : Gd X h 78 [none, none, none, none, none, none] [vI s0] := by
  unfold wp_X0_raise_b78 at w
  exact g_ireturn C Rr dX0_raise_78 ⟨_, rfl, w⟩
def wp_X0_raise_b30 (G23 : Hp → Int32 → Option Nat → Option Nat → Prop) (K : Int32 → Hp → Prop) (h : Hp) (l2 : Int32) (l3 : Option Nat) (l4 : Option Nat) (s0 : Int32) : Prop :=
  ((s0 = 0 → (∃ a197, l3 = some a197 ∧ (wp_J1_size h l3 (fun r200 h201 => Ex h h201 → (wp_X0_raise_b78 K h201 r200))))) ∧ (¬ s0 = 0 → ((∃ a204, l4 = some a204 ∧ (kd h a204 = 11 ∧ (wp_J17_next h l4 (fun r207 h208 => Ex h h208 → (wp_X0_raise_b40 G23 K h208 l2 l3 l4 r207))))) ∨ (∃ a211, l4 = some a211 ∧ (kd h a211 = 12 ∧ (wp_J16_next h l4 (fun r214 h215 => Ex h h215 → (wp_X0_raise_b40 G23 K h215 l2 l3 l4 r214))))) ∨ (∃ a218, l4 = some a218 ∧ (kd h a218 = 13 ∧ (wp_J19_next h l4 (fun r221 h222 => Ex h h222 → (wp_X0_raise_b40 G23 K h222 l2 l3 l4 r221))))))))
set_option maxHeartbeats 4000000 in
theorem wk_X0_raise_b30 {X : Fx} {K : Int32 → Hp → Prop} (C : Cx X cX0_raise yX0_raise.cls 6 7) (Rr : Rx X (Option.some Jvm.ClassFile.FieldType.int) (pI K)) (N : Nm X yX0_raise.name) {G23 : Hp → Int32 → Option Nat → Option Nat → Prop} (k23 : ∀ (h : Hp) (l2 : Int32) (l3 : Option Nat) (l4 : Option Nat), G23 h l2 l3 l4 → Gd X h 23 [none, none, some (vI l2), some (vR [2, 3] l3), some (vR [11, 12, 13] l4), none] []) (h : Hp) (l2 : Int32) (l3 : Option Nat) (l4 : Option Nat) (s0 : Int32) (w : wp_X0_raise_b30 G23 K h l2 l3 l4 s0) : Gd X h 30 [none, none, some (vI l2), some (vR [2, 3] l3), some (vR [11, 12, 13] l4), none] [vI s0] := by
  unfold wp_X0_raise_b30 at w
  refine g_if_eq 33 74 rfl C dX0_raise_30 rfl (fun u196 => ?_) (fun u196 => ?_)
  · have w := w.1 u196
    refine g_aload_n 75 rfl C dX0_raise_74 rfl ?_
    obtain ⟨a197, e198, w⟩ := w
    refine g_known 0 rfl e198 (fun k199 => ?_)
    have k199 : kd _ _ ∈ [2, 3] := k199
    simp only [List.mem_cons, List.not_mem_nil, or_false] at k199
    rcases k199 with k199 | k199
    · refine g_callU (As := []) (T := [2, 3]) (st := []) "java/util/HashMap" 78 rfl C dX0_raise_75 q598 q601 dcl_3acc5a q600 q599 q11 q603 okn_2c64e6 (by decide) (by decide) (Nat.le_of_ble_eq_true rfl) e198 (fun _ => kC rfl k199) rfl (ct_J1_size C.glob w) (fun r0 h201 p202 x203 _ => ?_)
      obtain ⟨r200, rfl, w⟩ := p202
      have w := w x203
      change Gd _ _ _ _ (vI r200 :: [])
      refine g_sub [none, none, none, none, none, none] [none] rfl rfl ?_
      exact wk_X0_raise_b78 C Rr N _ _ w
    · refine g_callU (As := []) (T := [2, 3]) (st := []) "java/util/LinkedHashMap" 78 rfl C dX0_raise_75 q598 q601 dcl_3acc5a q602 q599 q11 q603 okn_2c64e6 (by decide) (by decide) (Nat.le_of_ble_eq_true rfl) e198 (fun _ => kC rfl k199) rfl (ct_J1_size C.glob w) (fun r0 h201 p202 x203 _ => ?_)
      obtain ⟨r200, rfl, w⟩ := p202
      have w := w x203
      change Gd _ _ _ _ (vI r200 :: [])
      refine g_sub [none, none, none, none, none, none] [none] rfl rfl ?_
      exact wk_X0_raise_b78 C Rr N _ _ w
  · have w := w.2 u196
    refine g_aload 35 rfl C dX0_raise_33 rfl ?_
    rcases w with w | w | w
    · obtain ⟨a204, e205, w⟩ := w
      obtain ⟨k206, w⟩ := w
      refine g_nar 0 [11] rfl e205 (by rw [k206]; decide) ?_
      refine g_callF (As := []) (T := [11]) (st := []) "java/util/HashMap$KeyIterator" 40 rfl C dX0_raise_35 q791 q809 q811 q31 q813 q793 q792 q812 q810 q778 okn_a0cf24 (by decide) (by decide) (Nat.le_of_ble_eq_true rfl) e205 (fun _ => kC rfl k206) rfl (ct_J17_next C.glob w) (fun r0 h208 p209 x210 _ => ?_)
      obtain ⟨r207, rfl, w⟩ := p209
      have w := w x210
      change Gd _ _ _ _ (vR [4, 60] r207 :: [])
      refine g_sub [none, none, some none, some none, some none, none] [some [4, 5, 6, 7, 60]] rfl rfl ?_
      exact wk_X0_raise_b40 C Rr N k23 _ _ _ _ _ w
    · obtain ⟨a211, e212, w⟩ := w
      obtain ⟨k213, w⟩ := w
      refine g_nar 0 [12] rfl e212 (by rw [k213]; decide) ?_
      refine g_callF (As := []) (T := [12]) (st := []) "java/util/HashMap$EntryIterator" 40 rfl C dX0_raise_35 q791 q794 q796 q30 q798 q793 q792 q797 q795 q772 okn_a0cf24 (by decide) (by decide) (Nat.le_of_ble_eq_true rfl) e212 (fun _ => kC rfl k213) rfl (ct_J16_next C.glob w) (fun r0 h215 p216 x217 _ => ?_)
      obtain ⟨r214, rfl, w⟩ := p216
      have w := w x217
      change Gd _ _ _ _ (vR [5, 6, 7] r214 :: [])
      refine g_sub [none, none, some none, some none, some none, none] [some [4, 5, 6, 7, 60]] rfl rfl ?_
      exact wk_X0_raise_b40 C Rr N k23 _ _ _ _ _ w
    · obtain ⟨a218, e219, w⟩ := w
      obtain ⟨k220, w⟩ := w
      refine g_nar 0 [13] rfl e219 (by rw [k220]; decide) ?_
      refine g_callF (As := []) (T := [13]) (st := []) "java/util/LinkedHashMap$LinkedEntryIterator" 40 rfl C dX0_raise_35 q791 q817 q819 q33 q821 q793 q792 q820 q818 q781 okn_a0cf24 (by decide) (by decide) (Nat.le_of_ble_eq_true rfl) e219 (fun _ => kC rfl k220) rfl (ct_J19_next C.glob w) (fun r0 h222 p223 x224 _ => ?_)
      obtain ⟨r221, rfl, w⟩ := p223
      have w := w x224
      change Gd _ _ _ _ (vR [6, 7] r221 :: [])
      refine g_sub [none, none, some none, some none, some none, none] [some [4, 5, 6, 7, 60]] rfl rfl ?_
      exact wk_X0_raise_b40 C Rr N k23 _ _ _ _ _ w
def wp_X0_raise_b23 (K : Int32 → Hp → Prop) : Nat → Hp → Int32 → Option Nat → Option Nat → Prop
  | 0 => fun _ _ _ _ => False
  | m9 + 1 => fun h l2 l3 l4 =>
    ((∃ a182, l4 = some a182 ∧ (kd h a182 ∈ [11, 12] ∧ (wp_J15_hasNext h l4 (fun r185 h186 => Ex h h186 → (wp_X0_raise_b30 (wp_X0_raise_b23 K m9) K h186 l2 l3 l4 r185))))) ∨ (∃ a189, l4 = some a189 ∧ (kd h a189 = 13 ∧ (wp_J18_hasNext h l4 (fun r192 h193 => Ex h h193 → (wp_X0_raise_b30 (wp_X0_raise_b23 K m9) K h193 l2 l3 l4 r192))))))
set_option maxHeartbeats 4000000 in
theorem wk_X0_raise_b23 {X : Fx} {K : Int32 → Hp → Prop} (C : Cx X cX0_raise yX0_raise.cls 6 7) (Rr : Rx X (Option.some Jvm.ClassFile.FieldType.int) (pI K)) (N : Nm X yX0_raise.name) : ∀ (n : Nat) (h : Hp) (l2 : Int32) (l3 : Option Nat) (l4 : Option Nat), wp_X0_raise_b23 K n h l2 l3 l4 → Gd X h 23 [none, none, some (vI l2), some (vR [2, 3] l3), some (vR [11, 12, 13] l4), none] [] := by
  intro n
  induction n with
  | zero => intro h l2 l3 l4 w; exact w.elim
  | succ n ih =>
    intro h l2 l3 l4 w
    unfold wp_X0_raise_b23 at w
    refine g_aload 25 rfl C dX0_raise_23 rfl ?_
    rcases w with w | w
    · obtain ⟨a182, e183, w⟩ := w
      obtain ⟨k184, w⟩ := w
      have k184 : kd _ _ ∈ [11, 12] := k184
      simp only [List.mem_cons, List.not_mem_nil, or_false] at k184
      rcases k184 with k184 | k184
      · refine g_nar 0 [11, 12] rfl e183 (by rw [k184]; decide) ?_
        refine g_callF (As := []) (T := [11, 12]) (st := []) "java/util/HashMap$KeyIterator" 30 rfl C dX0_raise_25 q769 q779 q775 q29 q777 q771 q770 q776 q780 q778 okn_1bd07e (by decide) (by decide) (Nat.le_of_ble_eq_true rfl) e183 (fun _ => kC rfl k184) rfl (ct_J15_hasNext C.glob w) (fun r0 h186 p187 x188 _ => ?_)
        obtain ⟨r185, rfl, w⟩ := p187
        have w := w x188
        change Gd _ _ _ _ (vI r185 :: [])
        refine g_sub [none, none, some none, some none, some none, none] [none] rfl rfl ?_
        exact wk_X0_raise_b30 C Rr N ih _ _ _ _ _ w
      · refine g_nar 0 [11, 12] rfl e183 (by rw [k184]; decide) ?_
        refine g_callF (As := []) (T := [11, 12]) (st := []) "java/util/HashMap$EntryIterator" 30 rfl C dX0_raise_25 q769 q773 q775 q29 q777 q771 q770 q776 q774 q772 okn_1bd07e (by decide) (by decide) (Nat.le_of_ble_eq_true rfl) e183 (fun _ => kC rfl k184) rfl (ct_J15_hasNext C.glob w) (fun r0 h186 p187 x188 _ => ?_)
        obtain ⟨r185, rfl, w⟩ := p187
        have w := w x188
        change Gd _ _ _ _ (vI r185 :: [])
        refine g_sub [none, none, some none, some none, some none, none] [none] rfl rfl ?_
        exact wk_X0_raise_b30 C Rr N ih _ _ _ _ _ w
    · obtain ⟨a189, e190, w⟩ := w
      obtain ⟨k191, w⟩ := w
      refine g_nar 0 [13] rfl e190 (by rw [k191]; decide) ?_
      refine g_callF (As := []) (T := [13]) (st := []) "java/util/LinkedHashMap$LinkedEntryIterator" 30 rfl C dX0_raise_25 q769 q782 q784 q32 q786 q771 q770 q785 q783 q781 okn_1bd07e (by decide) (by decide) (Nat.le_of_ble_eq_true rfl) e190 (fun _ => kC rfl k191) rfl (ct_J18_hasNext C.glob w) (fun r0 h193 p194 x195 _ => ?_)
      obtain ⟨r192, rfl, w⟩ := p194
      have w := w x195
      change Gd _ _ _ _ (vI r192 :: [])
      refine g_sub [none, none, some none, some none, some none, none] [none] rfl rfl ?_
      exact wk_X0_raise_b30 C Rr N ih _ _ _ _ _ w
def wp_X0_raise_b21 (K : Int32 → Hp → Prop) (h : Hp) (l2 : Int32) (l3 : Option Nat) (s0 : Option Nat) : Prop :=
  (∃ n, wp_X0_raise_b23 K n h l2 l3 s0)
set_option maxHeartbeats 4000000 in
theorem wk_X0_raise_b21 {X : Fx} {K : Int32 → Hp → Prop} (C : Cx X cX0_raise yX0_raise.cls 6 7) (Rr : Rx X (Option.some Jvm.ClassFile.FieldType.int) (pI K)) (N : Nm X yX0_raise.name) (h : Hp) (l2 : Int32) (l3 : Option Nat) (s0 : Option Nat) (w : wp_X0_raise_b21 K h l2 l3 s0) : Gd X h 21 [none, none, some (vI l2), some (vR [2, 3] l3), none, none] [vR [11, 12, 13] s0] := by
  unfold wp_X0_raise_b21 at w
  refine g_astore 23 rfl C dX0_raise_21 (by decide) (rfl : _ = [none, none, some (vI _), some (vR [2, 3] _), some (vR [11, 12, 13] _), none]) ?_
  refine g_sub [none, none, some none, some none, some none, none] [] rfl rfl ?_
  obtain ⟨n9, w⟩ := w
  exact wk_X0_raise_b23 C Rr N n9 _ _ _ _ w
def wp_X0_raise_b16 (K : Int32 → Hp → Prop) (h : Hp) (l2 : Int32) (l3 : Option Nat) (s0 : Option Nat) : Prop :=
  ((∃ a142, s0 = some a142 ∧ (kd h a142 = 8 ∧ (wp_J13_iterator h s0 (fun r145 h146 => Ex h h146 → (wp_X0_raise_b21 K h146 l2 l3 r145))))) ∨ (∃ a149, s0 = some a149 ∧ (kd h a149 = 9 ∧ (wp_J22_iterator h s0 (fun r152 h153 => Ex h h153 → (wp_X0_raise_b21 K h153 l2 l3 r152))))) ∨ (∃ a156, s0 = some a156 ∧ (kd h a156 = 10 ∧ (wp_J23_iterator h s0 (fun r159 h160 => Ex h h160 → (wp_X0_raise_b21 K h160 l2 l3 r159))))))
set_option maxHeartbeats 4000000 in
theorem wk_X0_raise_b16 {X : Fx} {K : Int32 → Hp → Prop} (C : Cx X cX0_raise yX0_raise.cls 6 7) (Rr : Rx X (Option.some Jvm.ClassFile.FieldType.int) (pI K)) (N : Nm X yX0_raise.name) (h : Hp) (l2 : Int32) (l3 : Option Nat) (s0 : Option Nat) (w : wp_X0_raise_b16 K h l2 l3 s0) : Gd X h 16 [none, none, some (vI l2), some (vR [2, 3] l3), none, none] [vR [8, 9, 10] s0] := by
  unfold wp_X0_raise_b16 at w
  rcases w with w | w | w
  · obtain ⟨a142, e143, w⟩ := w
    obtain ⟨k144, w⟩ := w
    refine g_nar 0 [8] rfl e143 (by rw [k144]; decide) ?_
    refine g_callF (As := []) (T := [8]) (st := []) "java/util/HashMap$KeySet" 21 rfl C dX0_raise_16 q667 q702 q704 q27 q706 q669 q668 q705 q703 q701 okn_e2e68a (by decide) (by decide) (Nat.le_of_ble_eq_true rfl) e143 (fun _ => kC rfl k144) rfl (ct_J13_iterator C.glob w) (fun r0 h146 p147 x148 _ => ?_)
    obtain ⟨r145, rfl, w⟩ := p147
    have w := w x148
    change Gd _ _ _ _ (vR [11, 12, 13] r145 :: [])
    refine g_sub [none, none, some none, some none, none, none] [none] rfl rfl ?_
    exact wk_X0_raise_b21 C Rr N _ _ _ _ w
  · obtain ⟨a149, e150, w⟩ := w
    obtain ⟨k151, w⟩ := w
    refine g_nar 0 [9] rfl e150 (by rw [k151]; decide) ?_
    refine g_callF (As := []) (T := [9]) (st := []) "java/util/HashMap$EntrySet" 21 rfl C dX0_raise_16 q667 q671 q673 q37 q675 q669 q668 q674 q672 q670 okn_e2e68a (by decide) (by decide) (Nat.le_of_ble_eq_true rfl) e150 (fun _ => kC rfl k151) rfl (ct_J22_iterator C.glob w) (fun r0 h153 p154 x155 _ => ?_)
    obtain ⟨r152, rfl, w⟩ := p154
    have w := w x155
    change Gd _ _ _ _ (vR [11, 12, 13] r152 :: [])
    refine g_sub [none, none, some none, some none, none, none] [none] rfl rfl ?_
    exact wk_X0_raise_b21 C Rr N _ _ _ _ w
  · obtain ⟨a156, e157, w⟩ := w
    obtain ⟨k158, w⟩ := w
    refine g_nar 0 [10] rfl e157 (by rw [k158]; decide) ?_
    refine g_callF (As := []) (T := [10]) (st := []) "java/util/LinkedHashMap$LinkedEntrySet" 21 rfl C dX0_raise_16 q667 q720 q722 q38 q724 q669 q668 q723 q721 q719 okn_e2e68a (by decide) (by decide) (Nat.le_of_ble_eq_true rfl) e157 (fun _ => kC rfl k158) rfl (ct_J23_iterator C.glob w) (fun r0 h160 p161 x162 _ => ?_)
    obtain ⟨r159, rfl, w⟩ := p161
    have w := w x162
    change Gd _ _ _ _ (vR [11, 12, 13] r159 :: [])
    refine g_sub [none, none, some none, some none, none, none] [none] rfl rfl ?_
    exact wk_X0_raise_b21 C Rr N _ _ _ _ w
def wp_X0_raise (h : Hp) (x0 : Option Nat) (x1 : Int32) (x2 : Int32) (K : Int32 → Hp → Prop) : Prop :=
  (∃ a115, x0 = some a115 ∧ (wp_X0_map h x0 x1 (fun r118 h119 => Ex h h119 → ((r118 = none → (K (-1) h119)) ∧ (∀ a123, r118 = some a123 → ((kd h119 a123 = 2 ∧ (wp_J1_entrySet h119 r118 (fun r125 h126 => Ex h119 h126 → (wp_X0_raise_b16 K h126 x2 r118 r125)))) ∨ (kd h119 a123 = 3 ∧ (wp_J2_entrySet h119 r118 (fun r130 h131 => Ex h119 h131 → (wp_X0_raise_b16 K h131 x2 r118 r130))))))))))
set_option maxHeartbeats 4000000 in
theorem wk_X0_raise {X : Fx} {K : Int32 → Hp → Prop} (C : Cx X cX0_raise yX0_raise.cls 6 7) (Rr : Rx X (Option.some Jvm.ClassFile.FieldType.int) (pI K)) (N : Nm X yX0_raise.name) (h : Hp) (x0 : Option Nat) (x1 : Int32) (x2 : Int32) (w : wp_X0_raise h x0 x1 x2 K) : Gd X h 0 [some (vR [1] x0), some (vI x1), some (vI x2), none, none, none] [] := by
  unfold wp_X0_raise at w
  refine g_aload_n 1 rfl C dX0_raise_0 rfl ?_
  refine g_iload_n 2 rfl C dX0_raise_1 rfl ?_
  obtain ⟨a115, e116, w⟩ := w
  refine g_callV (As := [vI _]) (T := [1]) (st := []) "HashHall" 5 rfl C dX0_raise_2 q158 q160 qs0 q9 q161 rfl okn_a136fc (by decide) (by decide) (Nat.le_of_ble_eq_true rfl) e116 (fun q => tC rfl q) rfl (ct_X0_map C.glob w) (fun r0 h119 p120 x121 _ => ?_)
  obtain ⟨r118, rfl, w⟩ := p120
  have w := w x121
  change Gd _ _ _ _ (vR [2, 3] r118 :: [])
  refine g_astore_n 6 rfl C dX0_raise_5 (by decide) (rfl : _ = [some (vR [1] _), some (vI _), some (vI _), some (vR [2, 3] _), none, none]) ?_
  refine g_aload_n 7 rfl C dX0_raise_6 rfl ?_
  refine g_ifnonnull 10 12 rfl C dX0_raise_7 rfl (fun a123 u122 => ?_) (fun u122 => ?_)
  · have w := w.2 a123 u122
    refine g_aload_n 13 rfl C dX0_raise_12 rfl ?_
    rcases w with w | w
    · obtain ⟨k124, w⟩ := w
      refine g_callU (As := []) (T := [2, 3]) (st := []) "java/util/HashMap" 16 rfl C dX0_raise_13 q976 q1287 dcl_402f62 q1288 q903 q11 q905 okn_119244 (by decide) (by decide) (Nat.le_of_ble_eq_true rfl) u122 (fun _ => kC rfl k124) rfl (ct_J1_entrySet C.glob w) (fun r0 h126 p127 x128 _ => ?_)
      obtain ⟨r125, rfl, w⟩ := p127
      have w := w x128
      change Gd _ _ _ _ (vR [8, 9, 10] r125 :: [])
      refine g_sub [none, none, some none, some none, none, none] [none] rfl rfl ?_
      exact wk_X0_raise_b16 C Rr N _ _ _ _ w
    · obtain ⟨k129, w⟩ := w
      refine g_nar 0 [3] rfl u122 (by rw [k129]; decide) ?_
      refine g_callU (As := []) (T := [3]) (st := []) "java/util/LinkedHashMap" 16 rfl C dX0_raise_13 q976 q1287 dcl_402f62 q1289 q918 q12 q920 okn_119244 (by decide) (by decide) (Nat.le_of_ble_eq_true rfl) u122 (fun _ => kC rfl k129) rfl (ct_J2_entrySet C.glob w) (fun r0 h131 p132 x133 _ => ?_)
      obtain ⟨r130, rfl, w⟩ := p132
      have w := w x133
      change Gd _ _ _ _ (vR [8, 9, 10] r130 :: [])
      refine g_sub [none, none, some none, some none, none, none] [none] rfl rfl ?_
      exact wk_X0_raise_b16 C Rr N _ _ _ _ w
  · have w := w.1 u122
    refine g_iconst 11 rfl C dX0_raise_10 (-1) rfl ?_
    exact g_ireturn C Rr dX0_raise_11 ⟨_, rfl, w⟩
theorem ct_X0_raise {E : Gx} (GE : Glob E) {h : Hp} {x0 : Option Nat} {x1 : Int32} {x2 : Int32} {K : Int32 → Hp → Prop} (w : wp_X0_raise h x0 x1 x2 K) : Ct E yX0_raise cX0_raise 6 (Option.some Jvm.ClassFile.FieldType.int) 7 [vR [1] x0, vI x1, vI x2] h (pI K) :=
  Ct.of GE (by decide +kernel) (by simp [lvA, t2]) rfl (fun X hX C Rr N => wk_X0_raise C Rr N h x0 x1 x2 w)
def wp_X0_fill_b37 (K : Int32 → Hp → Prop) (h : Hp)  : Prop :=
  (K (-1) h)
set_option maxHeartbeats 4000000 in
theorem wk_X0_fill_b37 {X : Fx} {K : Int32 → Hp → Prop} (C : Cx X cX0_fill yX0_fill.cls 8 11) (Rr : Rx X (Option.some Jvm.ClassFile.FieldType.int) (pI K)) (N : Nm X yX0_fill.name) (h : Hp)  (w : wp_X0_fill_b37 K h ) : Gd X h 37 [none, none, none, none, none, none, none, none] [] := by
  unfold wp_X0_fill_b37 at w
  refine g_iconst 38 rfl C dX0_fill_37 (-1) rfl ?_
  exact g_ireturn C Rr dX0_fill_38 ⟨_, rfl, w⟩
def wp_X0_fill_b67 (G45 : Hp → Int32 → Int32 → Option Nat → Int32 → Int32 → Prop) (K : Int32 → Hp → Prop) (h : Hp) (l3 : Int32) (l4 : Int32) (l5 : Option Nat) (l6 : Int32) (l7 : Int32) (s0 : Option Nat) : Prop :=
  (G45 h l3 l4 l5 (l6 + l3) (l7 + 1))
set_option maxHeartbeats 4000000 in
theorem wk_X0_fill_b67 {X : Fx} {K : Int32 → Hp → Prop} (C : Cx X cX0_fill yX0_fill.cls 8 11) (Rr : Rx X (Option.some Jvm.ClassFile.FieldType.int) (pI K)) (N : Nm X yX0_fill.name) {G45 : Hp → Int32 → Int32 → Option Nat → Int32 → Int32 → Prop} (k45 : ∀ (h : Hp) (l3 : Int32) (l4 : Int32) (l5 : Option Nat) (l6 : Int32) (l7 : Int32), G45 h l3 l4 l5 l6 l7 → Gd X h 45 [none, none, none, some (vI l3), some (vI l4), some (vR [2, 3] l5), some (vI l6), some (vI l7)] []) (h : Hp) (l3 : Int32) (l4 : Int32) (l5 : Option Nat) (l6 : Int32) (l7 : Int32) (s0 : Option Nat) (w : wp_X0_fill_b67 G45 K h l3 l4 l5 l6 l7 s0) : Gd X h 67 [none, none, none, some (vI l3), some (vI l4), some (vR [2, 3] l5), some (vI l6), some (vI l7)] [vR [4, 60] s0] := by
  unfold wp_X0_fill_b67 at w
  refine g_pop 68 rfl C dX0_fill_67 rfl ?_
  refine g_iload 70 rfl C dX0_fill_68 rfl ?_
  refine g_iload_n 71 rfl C dX0_fill_70 rfl ?_
  refine g_iadd 72 rfl C dX0_fill_71 ?_
  refine g_istore 74 rfl C dX0_fill_72 (by decide) (rfl : _ = [none, none, none, some (vI _), some (vI _), some (vR [2, 3] _), some (vI _), some (vI _)]) ?_
  refine g_iinc 77 rfl C dX0_fill_74 rfl _ rfl (by decide) (rfl : _ = [none, none, none, some (vI _), some (vI _), some (vR [2, 3] _), some (vI _), some (vI _)]) ?_
  refine g_goto 45 C dX0_fill_77 rfl ?_
  refine g_sub [none, none, none, some none, some none, some none, some none, some none] [] rfl rfl ?_
  exact k45 _ _ _ _ _ _ w
def wp_X0_fill_b85 (K : Int32 → Hp → Prop) (h : Hp) (s0 : Int32) : Prop :=
  (K s0 h)
set_option maxHeartbeats 4000000 in
theorem wk_X0_fill_b85 {X : Fx} {K : Int32 → Hp → Prop} (C : Cx X cX0_fill yX0_fill.cls 8 11) (Rr : Rx X (Option.some Jvm.ClassFile.FieldType.int) (pI K)) (N : Nm X yX0_fill.name) (h : Hp) (s0 : Int32) (w : wp_X0_fill_b85 K h s0) : Gd X h 85 [none, none, none, none, none, none, none, none] [vI s0] := by
  unfold wp_X0_fill_b85 at w
  exact g_ireturn C Rr dX0_fill_85 ⟨_, rfl, w⟩
def wp_X0_fill_b45 (K : Int32 → Hp → Prop) : Nat → Hp → Int32 → Int32 → Option Nat → Int32 → Int32 → Prop
  | 0 => fun _ _ _ _ _ _ => False
  | m9 + 1 => fun h l3 l4 l5 l6 l7 =>
    ((l4 ≤ l7 → (∃ a62, l5 = some a62 ∧ (wp_J1_size h l5 (fun r65 h66 => Ex h h66 → (wp_X0_fill_b85 K h66 r65))))) ∧ (¬ l4 ≤ l7 → (wp_J5_valueOf h l6 (fun r70 h71 => Ex h h71 → (wp_J5_valueOf h71 l7 (fun r75 h76 => Ex h71 h76 → (∃ a79, l5 = some a79 ∧ (wp_J1_put h76 l5 r70 r75 (fun r82 h83 => Ex h76 h83 → (wp_X0_fill_b67 (wp_X0_fill_b45 K m9) K h83 l3 l4 l5 l6 l7 r82))))))))))
set_option maxHeartbeats 4000000 in
theorem wk_X0_fill_b45 {X : Fx} {K : Int32 → Hp → Prop} (C : Cx X cX0_fill yX0_fill.cls 8 11) (Rr : Rx X (Option.some Jvm.ClassFile.FieldType.int) (pI K)) (N : Nm X yX0_fill.name) : ∀ (n : Nat) (h : Hp) (l3 : Int32) (l4 : Int32) (l5 : Option Nat) (l6 : Int32) (l7 : Int32), wp_X0_fill_b45 K n h l3 l4 l5 l6 l7 → Gd X h 45 [none, none, none, some (vI l3), some (vI l4), some (vR [2, 3] l5), some (vI l6), some (vI l7)] [] := by
  intro n
  induction n with
  | zero => intro h l3 l4 l5 l6 l7 w; exact w.elim
  | succ n ih =>
    intro h l3 l4 l5 l6 l7 w
    unfold wp_X0_fill_b45 at w
    refine g_iload 47 rfl C dX0_fill_45 rfl ?_
    refine g_iload 49 rfl C dX0_fill_47 rfl ?_
    refine g_icmp_ge 52 80 rfl C dX0_fill_49 rfl (fun u61 => ?_) (fun u61 => ?_)
    · have w := w.1 u61
      refine g_aload 82 rfl C dX0_fill_80 rfl ?_
      obtain ⟨a62, e63, w⟩ := w
      refine g_known 0 rfl e63 (fun k64 => ?_)
      have k64 : kd _ _ ∈ [2, 3] := k64
      simp only [List.mem_cons, List.not_mem_nil, or_false] at k64
      rcases k64 with k64 | k64
      · refine g_callU (As := []) (T := [2, 3]) (st := []) "java/util/HashMap" 85 rfl C dX0_fill_82 q598 q601 dcl_3acc5a q600 q599 q11 q603 okn_2c64e6 (by decide) (by decide) (Nat.le_of_ble_eq_true rfl) e63 (fun _ => kC rfl k64) rfl (ct_J1_size C.glob w) (fun r0 h66 p67 x68 _ => ?_)
        obtain ⟨r65, rfl, w⟩ := p67
        have w := w x68
        change Gd _ _ _ _ (vI r65 :: [])
        refine g_sub [none, none, none, none, none, none, none, none] [none] rfl rfl ?_
        exact wk_X0_fill_b85 C Rr N _ _ w
      · refine g_callU (As := []) (T := [2, 3]) (st := []) "java/util/LinkedHashMap" 85 rfl C dX0_fill_82 q598 q601 dcl_3acc5a q602 q599 q11 q603 okn_2c64e6 (by decide) (by decide) (Nat.le_of_ble_eq_true rfl) e63 (fun _ => kC rfl k64) rfl (ct_J1_size C.glob w) (fun r0 h66 p67 x68 _ => ?_)
        obtain ⟨r65, rfl, w⟩ := p67
        have w := w x68
        change Gd _ _ _ _ (vI r65 :: [])
        refine g_sub [none, none, none, none, none, none, none, none] [none] rfl rfl ?_
        exact wk_X0_fill_b85 C Rr N _ _ w
    · have w := w.2 u61
      refine g_aload 54 rfl C dX0_fill_52 rfl ?_
      refine g_iload 56 rfl C dX0_fill_54 rfl ?_
      refine g_callS (As := [vI _]) (st := [vR [2, 3] _]) 59 rfl C dX0_fill_56 q163 q164 q15 q165 okn_680428 (by decide) (by decide) (Nat.le_of_ble_eq_true rfl) rfl (ct_J5_valueOf C.glob w) (fun r0 h71 p72 x73 _ => ?_)
      obtain ⟨r70, rfl, w⟩ := p72
      have w := w x73
      change Gd _ _ _ _ (vR [4, 60] r70 :: [vR [2, 3] _])
      refine g_iload 61 rfl C dX0_fill_59 rfl ?_
      refine g_callS (As := [vI _]) (st := [vR [4, 60] _, vR [2, 3] _]) 64 rfl C dX0_fill_61 q163 q164 q15 q165 okn_680428 (by decide) (by decide) (Nat.le_of_ble_eq_true rfl) rfl (ct_J5_valueOf C.glob w) (fun r0 h76 p77 x78 _ => ?_)
      obtain ⟨r75, rfl, w⟩ := p77
      have w := w x78
      change Gd _ _ _ _ (vR [4, 60] r75 :: [vR [4, 60] _, vR [2, 3] _])
      obtain ⟨a79, e80, w⟩ := w
      refine g_known 2 rfl e80 (fun k81 => ?_)
      have k81 : kd _ _ ∈ [2, 3] := k81
      simp only [List.mem_cons, List.not_mem_nil, or_false] at k81
      rcases k81 with k81 | k81
      · refine g_callU (As := [vR [4, 60] _, vR [4, 60] _]) (T := [2, 3]) (st := []) "java/util/HashMap" 67 rfl C dX0_fill_64 q183 q186 dcl_103543 q185 q184 q11 q188 okn_4ea4b2 (by decide) (by decide) (Nat.le_of_ble_eq_true rfl) e80 (fun _ => kC rfl k81) rfl (ct_J1_put C.glob w) (fun r0 h83 p84 x85 _ => ?_)
        obtain ⟨r82, rfl, w⟩ := p84
        have w := w x85
        change Gd _ _ _ _ (vR [4, 60] r82 :: [])
        refine g_sub [none, none, none, some none, some none, some none, some none, some none] [none] rfl rfl ?_
        exact wk_X0_fill_b67 C Rr N ih _ _ _ _ _ _ _ w
      · refine g_callU (As := [vR [4, 60] _, vR [4, 60] _]) (T := [2, 3]) (st := []) "java/util/LinkedHashMap" 67 rfl C dX0_fill_64 q183 q186 dcl_103543 q187 q184 q11 q188 okn_4ea4b2 (by decide) (by decide) (Nat.le_of_ble_eq_true rfl) e80 (fun _ => kC rfl k81) rfl (ct_J1_put C.glob w) (fun r0 h83 p84 x85 _ => ?_)
        obtain ⟨r82, rfl, w⟩ := p84
        have w := w x85
        change Gd _ _ _ _ (vR [4, 60] r82 :: [])
        refine g_sub [none, none, none, some none, some none, some none, some none, some none] [none] rfl rfl ?_
        exact wk_X0_fill_b67 C Rr N ih _ _ _ _ _ _ _ w
def wp_X0_fill_b31 (K : Int32 → Hp → Prop) (h : Hp) (l2 : Int32) (l3 : Int32) (l4 : Int32) (l5 : Option Nat) (s0 : Int32) : Prop :=
  ((s0 ≤ 1000 → (∃ n, wp_X0_fill_b45 K n h l3 l4 l5 l2 0)) ∧ (¬ s0 ≤ 1000 → (wp_X0_fill_b37 K h)))
set_option maxHeartbeats 4000000 in
theorem wk_X0_fill_b31 {X : Fx} {K : Int32 → Hp → Prop} (C : Cx X cX0_fill yX0_fill.cls 8 11) (Rr : Rx X (Option.some Jvm.ClassFile.FieldType.int) (pI K)) (N : Nm X yX0_fill.name) (h : Hp) (l2 : Int32) (l3 : Int32) (l4 : Int32) (l5 : Option Nat) (s0 : Int32) (w : wp_X0_fill_b31 K h l2 l3 l4 l5 s0) : Gd X h 31 [none, none, some (vI l2), some (vI l3), some (vI l4), some (vR [2, 3] l5), none, none] [vI s0] := by
  unfold wp_X0_fill_b31 at w
  refine g_sipush 34 rfl C dX0_fill_31 1000 (by decide) ?_
  refine g_icmp_le 37 39 rfl C dX0_fill_34 rfl (fun u86 => ?_) (fun u86 => ?_)
  · have w := w.1 u86
    refine g_iload_n 40 rfl C dX0_fill_39 rfl ?_
    refine g_istore 42 rfl C dX0_fill_40 (by decide) (rfl : _ = [none, none, some (vI _), some (vI _), some (vI _), some (vR [2, 3] _), some (vI _), none]) ?_
    refine g_iconst 43 rfl C dX0_fill_42 0 rfl ?_
    refine g_istore 45 rfl C dX0_fill_43 (by decide) (rfl : _ = [none, none, some (vI _), some (vI _), some (vI _), some (vR [2, 3] _), some (vI _), some (vI _)]) ?_
    refine g_sub [none, none, none, some none, some none, some none, some none, some none] [] rfl rfl ?_
    obtain ⟨n9, w⟩ := w
    exact wk_X0_fill_b45 C Rr N n9 _ _ _ _ _ _ w
  · have w := w.2 u86
    refine g_sub [none, none, none, none, none, none, none, none] [] rfl rfl ?_
    exact wk_X0_fill_b37 C Rr N _ w
def wp_X0_fill (h : Hp) (x0 : Option Nat) (x1 : Int32) (x2 : Int32) (x3 : Int32) (x4 : Int32) (K : Int32 → Hp → Prop) : Prop :=
  (∃ a45, x0 = some a45 ∧ (wp_X0_map h x0 x1 (fun r48 h49 => Ex h h49 → ((r48 = none → (wp_X0_fill_b37 K h49)) ∧ (∀ a53, r48 = some a53 → ((x4 < 1 → (wp_X0_fill_b37 K h49)) ∧ (¬ x4 < 1 → ((400 < x4 → (wp_X0_fill_b37 K h49)) ∧ (¬ 400 < x4 → (wp_J1_size h49 r48 (fun r57 h58 => Ex h49 h58 → (wp_X0_fill_b31 K h58 x2 x3 x4 r48 r57))))))))))))
set_option maxHeartbeats 4000000 in
theorem wk_X0_fill {X : Fx} {K : Int32 → Hp → Prop} (C : Cx X cX0_fill yX0_fill.cls 8 11) (Rr : Rx X (Option.some Jvm.ClassFile.FieldType.int) (pI K)) (N : Nm X yX0_fill.name) (h : Hp) (x0 : Option Nat) (x1 : Int32) (x2 : Int32) (x3 : Int32) (x4 : Int32) (w : wp_X0_fill h x0 x1 x2 x3 x4 K) : Gd X h 0 [some (vR [1] x0), some (vI x1), some (vI x2), some (vI x3), some (vI x4), none, none, none] [] := by
  unfold wp_X0_fill at w
  refine g_aload_n 1 rfl C dX0_fill_0 rfl ?_
  refine g_iload_n 2 rfl C dX0_fill_1 rfl ?_
  obtain ⟨a45, e46, w⟩ := w
  refine g_callV (As := [vI _]) (T := [1]) (st := []) "HashHall" 5 rfl C dX0_fill_2 q158 q160 qs0 q9 q161 rfl okn_a136fc (by decide) (by decide) (Nat.le_of_ble_eq_true rfl) e46 (fun q => tC rfl q) rfl (ct_X0_map C.glob w) (fun r0 h49 p50 x51 _ => ?_)
  obtain ⟨r48, rfl, w⟩ := p50
  have w := w x51
  change Gd _ _ _ _ (vR [2, 3] r48 :: [])
  refine g_astore 7 rfl C dX0_fill_5 (by decide) (rfl : _ = [some (vR [1] _), some (vI _), some (vI _), some (vI _), some (vI _), some (vR [2, 3] _), none, none]) ?_
  refine g_aload 9 rfl C dX0_fill_7 rfl ?_
  refine g_ifnull 12 37 rfl C dX0_fill_9 rfl (fun u52 => ?_) (fun a53 u52 => ?_)
  · have w := w.1 u52
    refine g_sub [none, none, none, none, none, none, none, none] [] rfl rfl ?_
    exact wk_X0_fill_b37 C Rr N _ w
  · have w := w.2 a53 u52
    refine g_iload 14 rfl C dX0_fill_12 rfl ?_
    refine g_iconst 15 rfl C dX0_fill_14 1 rfl ?_
    refine g_icmp_lt 18 37 rfl C dX0_fill_15 rfl (fun u54 => ?_) (fun u54 => ?_)
    · have w := w.1 u54
      refine g_sub [none, none, none, none, none, none, none, none] [] rfl rfl ?_
      exact wk_X0_fill_b37 C Rr N _ w
    · have w := w.2 u54
      refine g_iload 20 rfl C dX0_fill_18 rfl ?_
      refine g_sipush 23 rfl C dX0_fill_20 400 (by decide) ?_
      refine g_icmp_gt 26 37 rfl C dX0_fill_23 rfl (fun u55 => ?_) (fun u55 => ?_)
      · have w := w.1 u55
        refine g_sub [none, none, none, none, none, none, none, none] [] rfl rfl ?_
        exact wk_X0_fill_b37 C Rr N _ w
      · have w := w.2 u55
        refine g_aload 28 rfl C dX0_fill_26 rfl ?_
        refine g_known 0 rfl u52 (fun k56 => ?_)
        have k56 : kd _ _ ∈ [2, 3] := k56
        simp only [List.mem_cons, List.not_mem_nil, or_false] at k56
        rcases k56 with k56 | k56
        · refine g_callU (As := []) (T := [2, 3]) (st := []) "java/util/HashMap" 31 rfl C dX0_fill_28 q598 q601 dcl_3acc5a q600 q599 q11 q603 okn_2c64e6 (by decide) (by decide) (Nat.le_of_ble_eq_true rfl) u52 (fun _ => kC rfl k56) rfl (ct_J1_size C.glob w) (fun r0 h58 p59 x60 _ => ?_)
          obtain ⟨r57, rfl, w⟩ := p59
          have w := w x60
          change Gd _ _ _ _ (vI r57 :: [])
          refine g_sub [none, none, some none, some none, some none, some none, none, none] [none] rfl rfl ?_
          exact wk_X0_fill_b31 C Rr N _ _ _ _ _ _ w
        · refine g_callU (As := []) (T := [2, 3]) (st := []) "java/util/LinkedHashMap" 31 rfl C dX0_fill_28 q598 q601 dcl_3acc5a q602 q599 q11 q603 okn_2c64e6 (by decide) (by decide) (Nat.le_of_ble_eq_true rfl) u52 (fun _ => kC rfl k56) rfl (ct_J1_size C.glob w) (fun r0 h58 p59 x60 _ => ?_)
          obtain ⟨r57, rfl, w⟩ := p59
          have w := w x60
          change Gd _ _ _ _ (vI r57 :: [])
          refine g_sub [none, none, some none, some none, some none, some none, none, none] [none] rfl rfl ?_
          exact wk_X0_fill_b31 C Rr N _ _ _ _ _ _ w
theorem ct_X0_fill {E : Gx} (GE : Glob E) {h : Hp} {x0 : Option Nat} {x1 : Int32} {x2 : Int32} {x3 : Int32} {x4 : Int32} {K : Int32 → Hp → Prop} (w : wp_X0_fill h x0 x1 x2 x3 x4 K) : Ct E yX0_fill cX0_fill 8 (Option.some Jvm.ClassFile.FieldType.int) 11 [vR [1] x0, vI x1, vI x2, vI x3, vI x4] h (pI K) :=
  Ct.of GE (by decide +kernel) (by simp [lvA, t2]) rfl (fun X hX C Rr N => wk_X0_fill C Rr N h x0 x1 x2 x3 x4 w)
def wp_X2_init (h : Hp) (x0 : Option Nat) (K : Hp → Prop) : Prop :=
  (∃ a62, x0 = some a62 ∧ (∃ N64, 16 = nI N64 ∧ N64 < 2 ^ 26 ∧ Rm h 1 N64 ∧ ∀ a68, kd h a68 = 0 → ∀ h70, h70 = nw h a68 50 N64 → (∀ h71, h71 = wR h70 42 a62 (some a68) → (∃ N72, 16 = nI N72 ∧ N72 < 2 ^ 26 ∧ Rm h71 1 N72 ∧ ∀ a76, kd h71 a76 = 0 → ∀ h78, h78 = nw h71 a76 50 N72 → (∀ h79, h79 = wR h78 43 a62 (some a76) → (∃ N80, 16 = nI N80 ∧ N80 < 2 ^ 26 ∧ Rm h79 1 N80 ∧ ∀ a84, kd h79 a84 = 0 → ∀ h86, h86 = nw h79 a84 50 N80 → (∀ h87, h87 = wR h86 44 a62 (some a84) → (∃ N88, 16 = nI N88 ∧ N88 < 2 ^ 26 ∧ Rm h87 1 N88 ∧ ∀ a92, kd h87 a92 = 0 → ∀ h94, h94 = nw h87 a92 50 N88 → (∀ h95, h95 = wR h94 45 a62 (some a92) → (∃ N96, 16 = nI N96 ∧ N96 < 2 ^ 26 ∧ Rm h95 1 N96 ∧ ∀ a100, kd h95 a100 = 0 → ∀ h102, h102 = nw h95 a100 50 N96 → (∀ h103, h103 = wR h102 46 a62 (some a100) → (∀ h104, h104 = wI h103 48 a62 (-1) → (∀ h105, h105 = wI h104 50 a62 (-1) → (∀ h106, h106 = wI h105 51 a62 (-1) → (K h106)))))))))))))))
set_option maxHeartbeats 4000000 in
theorem wk_X2_init {X : Fx} {K : Hp → Prop} (C : Cx X cX2_init yX2_init.cls 1 2) (Rr : Rx X (Option.none : Option Jvm.ClassFile.FieldType) (pV K)) (N : Nm X yX2_init.name) (h : Hp) (x0 : Option Nat) (w : wp_X2_init h x0 K) : Gd X h 0 [some (vR [15] x0)] [] := by
  unfold wp_X2_init at w
  refine g_aload_n 1 rfl C dX2_init_0 rfl ?_
  obtain ⟨a62, e63, w⟩ := w
  refine g_objInit 4 rfl C dX2_init_1 q1110 q45 q46 (by decide) (Nat.le_of_ble_eq_true rfl) e63 ?_
  refine g_aload_n 5 rfl C dX2_init_4 rfl ?_
  refine g_bipush 7 rfl C dX2_init_5 16 (by decide) ?_
  obtain ⟨N64, e65, b66, r67, w⟩ := w
  refine g_newI 9 rfl C dX2_init_7 e65 b66 r67 (fun a68 z69 => ?_)
  have w := w a68 z69 _ rfl
  refine g_putR 12 rfl C dX2_init_9 fl_HashHallModel_Pairs_7 rfl rfl rfl e63 rfl ?_
  have w := w _ rfl
  refine g_aload_n 13 rfl C dX2_init_12 rfl ?_
  refine g_bipush 15 rfl C dX2_init_13 16 (by decide) ?_
  obtain ⟨N72, e73, b74, r75, w⟩ := w
  refine g_newI 17 rfl C dX2_init_15 e73 b74 r75 (fun a76 z77 => ?_)
  have w := w a76 z77 _ rfl
  refine g_putR 20 rfl C dX2_init_17 fl_HashHallModel_Pairs_13 rfl rfl rfl e63 rfl ?_
  have w := w _ rfl
  refine g_aload_n 21 rfl C dX2_init_20 rfl ?_
  refine g_bipush 23 rfl C dX2_init_21 16 (by decide) ?_
  obtain ⟨N80, e81, b82, r83, w⟩ := w
  refine g_newI 25 rfl C dX2_init_23 e81 b82 r83 (fun a84 z85 => ?_)
  have w := w a84 z85 _ rfl
  refine g_putR 28 rfl C dX2_init_25 fl_HashHallModel_Pairs_16 rfl rfl rfl e63 rfl ?_
  have w := w _ rfl
  refine g_aload_n 29 rfl C dX2_init_28 rfl ?_
  refine g_bipush 31 rfl C dX2_init_29 16 (by decide) ?_
  obtain ⟨N88, e89, b90, r91, w⟩ := w
  refine g_newI 33 rfl C dX2_init_31 e89 b90 r91 (fun a92 z93 => ?_)
  have w := w a92 z93 _ rfl
  refine g_putR 36 rfl C dX2_init_33 fl_HashHallModel_Pairs_19 rfl rfl rfl e63 rfl ?_
  have w := w _ rfl
  refine g_aload_n 37 rfl C dX2_init_36 rfl ?_
  refine g_bipush 39 rfl C dX2_init_37 16 (by decide) ?_
  obtain ⟨N96, e97, b98, r99, w⟩ := w
  refine g_newI 41 rfl C dX2_init_39 e97 b98 r99 (fun a100 z101 => ?_)
  have w := w a100 z101 _ rfl
  refine g_putR 44 rfl C dX2_init_41 fl_HashHallModel_Pairs_22 rfl rfl rfl e63 rfl ?_
  have w := w _ rfl
  refine g_aload_n 45 rfl C dX2_init_44 rfl ?_
  refine g_iconst 46 rfl C dX2_init_45 (-1) rfl ?_
  refine g_putI 49 rfl C dX2_init_46 fl_HashHallModel_Pairs_25 rfl rfl e63 rfl ?_
  have w := w _ rfl
  refine g_aload_n 50 rfl C dX2_init_49 rfl ?_
  refine g_iconst 51 rfl C dX2_init_50 (-1) rfl ?_
  refine g_putI 54 rfl C dX2_init_51 fl_HashHallModel_Pairs_29 rfl rfl e63 rfl ?_
  have w := w _ rfl
  refine g_aload_n 55 rfl C dX2_init_54 rfl ?_
  refine g_iconst 56 rfl C dX2_init_55 (-1) rfl ?_
  refine g_putI 59 rfl C dX2_init_56 fl_HashHallModel_Pairs_32 rfl rfl e63 rfl ?_
  have w := w _ rfl
  exact g_vreturn C Rr dX2_init_59 ⟨rfl, w⟩
theorem ct_X2_init {E : Gx} (GE : Glob E) {h : Hp} {x0 : Option Nat} {K : Hp → Prop} (w : wp_X2_init h x0 K) : Ct E yX2_init cX2_init 1 (Option.none : Option Jvm.ClassFile.FieldType) 2 [vR [15] x0] h (pV K) :=
  Ct.of GE (by decide +kernel) (by simp [lvA, t2]) rfl (fun X hX C Rr N => wk_X2_init C Rr N h x0 w)
def wp_X1_init (h : Hp) (x0 : Option Nat) (K : Hp → Prop) : Prop :=
  (∃ a64, x0 = some a64 ∧ (∃ N66, 3 = nI N66 ∧ N66 < 2 ^ 26 ∧ Rm h 1 N66 ∧ ∀ a70, kd h a70 = 0 → ∀ h72, h72 = nw h a70 52 N66 → (Rm h72 1 10 ∧ ∀ a73, kd h72 a73 = 0 → ∀ h74, h74 = nw h72 a73 15 0 → (wp_X2_init h74 (some a73) (fun h79 => Ex h74 h79 → (∃ j82, 0 = nI j82 ∧ j82 < ln h79 a70 ∧ ∀ h85, h85 = wR h79 (100 + j82) a70 (some a73) → (Rm h85 1 10 ∧ ∀ a86, kd h85 a86 = 0 → ∀ h87, h87 = nw h85 a86 15 0 → (wp_X2_init h87 (some a86) (fun h92 => Ex h87 h92 → (∃ j95, 1 = nI j95 ∧ j95 < ln h92 a70 ∧ ∀ h98, h98 = wR h92 (100 + j95) a70 (some a86) → (Rm h98 1 10 ∧ ∀ a99, kd h98 a99 = 0 → ∀ h100, h100 = nw h98 a99 15 0 → (wp_X2_init h100 (some a99) (fun h105 => Ex h100 h105 → (∃ j108, 2 = nI j108 ∧ j108 < ln h105 a70 ∧ ∀ h111, h111 = wR h105 (100 + j108) a70 (some a99) → (∀ h112, h112 = wR h111 41 a64 (some a70) → (K h112))))))))))))))))
set_option maxHeartbeats 4000000 in
theorem wk_X1_init {X : Fx} {K : Hp → Prop} (C : Cx X cX1_init yX1_init.cls 1 3) (Rr : Rx X (Option.none : Option Jvm.ClassFile.FieldType) (pV K)) (N : Nm X yX1_init.name) (h : Hp) (x0 : Option Nat) (w : wp_X1_init h x0 K) : Gd X h 0 [some (vR [14] x0)] [] := by
  unfold wp_X1_init at w
  refine g_aload_n 1 rfl C dX1_init_0 rfl ?_
  obtain ⟨a64, e65, w⟩ := w
  refine g_objInit 4 rfl C dX1_init_1 q1103 q45 q46 (by decide) (Nat.le_of_ble_eq_true rfl) e65 ?_
  refine g_aload_n 5 rfl C dX1_init_4 rfl ?_
  refine g_iconst 6 rfl C dX1_init_5 3 rfl ?_
  obtain ⟨N66, e67, b68, r69, w⟩ := w
  refine g_newA 52 9 rfl C dX1_init_6 (by decide) rfl q1104 q1105 e67 b68 r69 (fun a70 z71 => ?_)
  have w := w a70 z71 _ rfl
  refine g_dup 10 rfl C dX1_init_9 rfl ?_
  refine g_iconst 11 rfl C dX1_init_10 0 rfl ?_
  obtain ⟨r75, w⟩ := w
  refine g_new 15 14 rfl C dX1_init_11 rfl q1104 q1106 q17 r75 (fun a73 z76 => ?_)
  have w := w a73 z76 _ rfl
  refine g_dup 15 rfl C dX1_init_14 rfl ?_
  refine g_callIN (As := []) (T := [15]) (st := [vR [15] _, vI _, vR [52] _, vR [52] _, vR [14] _]) 18 rfl C dX1_init_15 q1107 q1108 q17 q1109 rfl okn_71abc0 (by decide) (by decide) (Nat.le_of_ble_eq_true rfl) rfl rfl (ct_X2_init C.glob w) (fun r0 h79 p80 x81 _ => ?_)
  obtain ⟨rfl, w⟩ := p80
  have w := w x81
  change Gd _ _ _ _ [vR [15] _, vI _, vR [52] _, vR [52] _, vR [14] _]
  obtain ⟨j82, e83, e84, w⟩ := w
  refine g_aastore 52 19 rfl C dX1_init_18 (by decide) rfl rfl e83 e84 ?_
  have w := w _ rfl
  refine g_dup 20 rfl C dX1_init_19 rfl ?_
  refine g_iconst 21 rfl C dX1_init_20 1 rfl ?_
  obtain ⟨r88, w⟩ := w
  refine g_new 15 24 rfl C dX1_init_21 rfl q1104 q1106 q17 r88 (fun a86 z89 => ?_)
  have w := w a86 z89 _ rfl
  refine g_dup 25 rfl C dX1_init_24 rfl ?_
  refine g_callIN (As := []) (T := [15]) (st := [vR [15] _, vI _, vR [52] _, vR [52] _, vR [14] _]) 28 rfl C dX1_init_25 q1107 q1108 q17 q1109 rfl okn_71abc0 (by decide) (by decide) (Nat.le_of_ble_eq_true rfl) rfl rfl (ct_X2_init C.glob w) (fun r0 h92 p93 x94 _ => ?_)
  obtain ⟨rfl, w⟩ := p93
  have w := w x94
  change Gd _ _ _ _ [vR [15] _, vI _, vR [52] _, vR [52] _, vR [14] _]
  obtain ⟨j95, e96, e97, w⟩ := w
  refine g_aastore 52 29 rfl C dX1_init_28 (by decide) rfl rfl e96 e97 ?_
  have w := w _ rfl
  refine g_dup 30 rfl C dX1_init_29 rfl ?_
  refine g_iconst 31 rfl C dX1_init_30 2 rfl ?_
  obtain ⟨r101, w⟩ := w
  refine g_new 15 34 rfl C dX1_init_31 rfl q1104 q1106 q17 r101 (fun a99 z102 => ?_)
  have w := w a99 z102 _ rfl
  refine g_dup 35 rfl C dX1_init_34 rfl ?_
  refine g_callIN (As := []) (T := [15]) (st := [vR [15] _, vI _, vR [52] _, vR [52] _, vR [14] _]) 38 rfl C dX1_init_35 q1107 q1108 q17 q1109 rfl okn_71abc0 (by decide) (by decide) (Nat.le_of_ble_eq_true rfl) rfl rfl (ct_X2_init C.glob w) (fun r0 h105 p106 x107 _ => ?_)
  obtain ⟨rfl, w⟩ := p106
  have w := w x107
  change Gd _ _ _ _ [vR [15] _, vI _, vR [52] _, vR [52] _, vR [14] _]
  obtain ⟨j108, e109, e110, w⟩ := w
  refine g_aastore 52 39 rfl C dX1_init_38 (by decide) rfl rfl e109 e110 ?_
  have w := w _ rfl
  refine g_putRF 42 rfl C N dX1_init_39 fl_HashHallModel_12 ⟨rfl, rfl⟩ rfl rfl e65 rfl ?_
  have w := w _ rfl
  exact g_vreturn C Rr dX1_init_42 ⟨rfl, w⟩
theorem ct_X1_init {E : Gx} (GE : Glob E) {h : Hp} {x0 : Option Nat} {K : Hp → Prop} (w : wp_X1_init h x0 K) : Ct E yX1_init cX1_init 1 (Option.none : Option Jvm.ClassFile.FieldType) 3 [vR [14] x0] h (pV K) :=
  Ct.of GE (by decide +kernel) (by simp [lvA, t2]) rfl (fun X hX C Rr N => wk_X1_init C Rr N h x0 w)
def wp_X1_isMap_b14 (K : Int32 → Hp → Prop) (h : Hp) (s0 : Int32) : Prop :=
  ((s0 = 0 ∨ s0 = 1) ∧ K s0 h)
set_option maxHeartbeats 4000000 in
theorem wk_X1_isMap_b14 {X : Fx} {K : Int32 → Hp → Prop} (C : Cx X cX1_isMap yX1_isMap.cls 1 2) (Rr : Rx X (Option.some Jvm.ClassFile.FieldType.boolean) (pI K)) (N : Nm X yX1_isMap.name) (h : Hp) (s0 : Int32) (w : wp_X1_isMap_b14 K h s0) : Gd X h 14 [none] [vI s0] := by
  unfold wp_X1_isMap_b14 at w
  exact g_zreturn C Rr dX1_isMap_14 w.1 ⟨_, rfl, w.2⟩
def wp_X1_isMap_b13 (K : Int32 → Hp → Prop) (h : Hp)  : Prop :=
  (wp_X1_isMap_b14 K h 0)
set_option maxHeartbeats 4000000 in
theorem wk_X1_isMap_b13 {X : Fx} {K : Int32 → Hp → Prop} (C : Cx X cX1_isMap yX1_isMap.cls 1 2) (Rr : Rx X (Option.some Jvm.ClassFile.FieldType.boolean) (pI K)) (N : Nm X yX1_isMap.name) (h : Hp)  (w : wp_X1_isMap_b13 K h ) : Gd X h 13 [none] [] := by
  unfold wp_X1_isMap_b13 at w
  refine g_iconst 14 rfl C dX1_isMap_13 0 rfl ?_
  refine g_sub [none] [none] rfl rfl ?_
  exact wk_X1_isMap_b14 C Rr N _ _ w
def wp_X1_isMap (h : Hp) (x0 : Int32) (K : Int32 → Hp → Prop) : Prop :=
  ((x0 < 0 → (wp_X1_isMap_b13 K h)) ∧ (¬ x0 < 0 → ((2 < x0 → (wp_X1_isMap_b13 K h)) ∧ (¬ 2 < x0 → (wp_X1_isMap_b14 K h 1)))))
set_option maxHeartbeats 4000000 in
theorem wk_X1_isMap {X : Fx} {K : Int32 → Hp → Prop} (C : Cx X cX1_isMap yX1_isMap.cls 1 2) (Rr : Rx X (Option.some Jvm.ClassFile.FieldType.boolean) (pI K)) (N : Nm X yX1_isMap.name) (h : Hp) (x0 : Int32) (w : wp_X1_isMap h x0 K) : Gd X h 0 [some (vI x0)] [] := by
  unfold wp_X1_isMap at w
  refine g_iload_n 1 rfl C dX1_isMap_0 rfl ?_
  refine g_if_lt 4 13 rfl C dX1_isMap_1 rfl (fun u3 => ?_) (fun u3 => ?_)
  · have w := w.1 u3
    refine g_sub [none] [] rfl rfl ?_
    exact wk_X1_isMap_b13 C Rr N _ w
  · have w := w.2 u3
    refine g_iload_n 5 rfl C dX1_isMap_4 rfl ?_
    refine g_iconst 6 rfl C dX1_isMap_5 2 rfl ?_
    refine g_icmp_gt 9 13 rfl C dX1_isMap_6 rfl (fun u4 => ?_) (fun u4 => ?_)
    · have w := w.1 u4
      refine g_sub [none] [] rfl rfl ?_
      exact wk_X1_isMap_b13 C Rr N _ w
    · have w := w.2 u4
      refine g_iconst 10 rfl C dX1_isMap_9 1 rfl ?_
      refine g_goto 14 C dX1_isMap_10 rfl ?_
      refine g_sub [none] [none] rfl rfl ?_
      exact wk_X1_isMap_b14 C Rr N _ _ w
theorem ct_X1_isMap {E : Gx} (GE : Glob E) {h : Hp} {x0 : Int32} {K : Int32 → Hp → Prop} (w : wp_X1_isMap h x0 K) : Ct E yX1_isMap cX1_isMap 1 (Option.some Jvm.ClassFile.FieldType.boolean) 2 [vI x0] h (pI K) :=
  Ct.of GE (by decide +kernel) (by simp [lvA, t2]) rfl (fun X hX C Rr N => wk_X1_isMap C Rr N h x0 w)
def wp_X2_link_b42 (K : Hp → Prop) (h : Hp) (l0 : Option Nat) (l1 : Int32) : Prop :=
  (∃ a60, l0 = some a60 ∧ (∀ h62, h62 = wI h 51 a60 l1 → (K h62)))
set_option maxHeartbeats 4000000 in
theorem wk_X2_link_b42 {X : Fx} {K : Hp → Prop} (C : Cx X cX2_link yX2_link.cls 2 2) (Rr : Rx X (Option.none : Option Jvm.ClassFile.FieldType) (pV K)) (N : Nm X yX2_link.name) (h : Hp) (l0 : Option Nat) (l1 : Int32) (w : wp_X2_link_b42 K h l0 l1) : Gd X h 42 [some (vR [15] l0), some (vI l1)] [] := by
  unfold wp_X2_link_b42 at w
  refine g_aload_n 43 rfl C dX2_link_42 rfl ?_
  refine g_iload_n 44 rfl C dX2_link_43 rfl ?_
  obtain ⟨a60, e61, w⟩ := w
  refine g_putI 47 rfl C dX2_link_44 fl_HashHallModel_Pairs_32 rfl rfl e61 rfl ?_
  have w := w _ rfl
  exact g_vreturn C Rr dX2_link_47 ⟨rfl, w⟩
def wp_X2_link (h : Hp) (x0 : Option Nat) (x1 : Int32) (K : Hp → Prop) : Prop :=
  (∃ a38, x0 = some a38 ∧ (∃ a40, (rf h 45 a38) = some a40 ∧ (∃ j42, x1 = nI j42 ∧ j42 < ln h a40 ∧ ∀ h45, h45 = wI h (100 + j42) a40 (it h 51 a38) → (∃ a46, (rf h45 46 a38) = some a46 ∧ (∃ j48, x1 = nI j48 ∧ j48 < ln h45 a46 ∧ ∀ h51, h51 = wI h45 (100 + j48) a46 (-1) → (((it h51 51 a38) < 0 → (∀ h53, h53 = wI h51 50 a38 x1 → (wp_X2_link_b42 K h53 x0 x1))) ∧ (¬ (it h51 51 a38) < 0 → (∃ a54, (rf h51 46 a38) = some a54 ∧ (∃ j56, (it h51 51 a38) = nI j56 ∧ j56 < ln h51 a54 ∧ ∀ h59, h59 = wI h51 (100 + j56) a54 x1 → (wp_X2_link_b42 K h59 x0 x1))))))))))
set_option maxHeartbeats 4000000 in
theorem wk_X2_link {X : Fx} {K : Hp → Prop} (C : Cx X cX2_link yX2_link.cls 2 2) (Rr : Rx X (Option.none : Option Jvm.ClassFile.FieldType) (pV K)) (N : Nm X yX2_link.name) (h : Hp) (x0 : Option Nat) (x1 : Int32) (w : wp_X2_link h x0 x1 K) : Gd X h 0 [some (vR [15] x0), some (vI x1)] [] := by
  unfold wp_X2_link at w
  refine g_aload_n 1 rfl C dX2_link_0 rfl ?_
  obtain ⟨a38, e39, w⟩ := w
  refine g_getR 4 rfl C dX2_link_1 fl_HashHallModel_Pairs_19 rfl e39 rfl ?_
  refine g_iload_n 5 rfl C dX2_link_4 rfl ?_
  refine g_aload_n 6 rfl C dX2_link_5 rfl ?_
  refine g_getI 9 rfl C dX2_link_6 fl_HashHallModel_Pairs_32 rfl e39 rfl ?_
  obtain ⟨a40, e41, w⟩ := w
  obtain ⟨j42, e43, e44, w⟩ := w
  refine g_iastore 10 rfl C dX2_link_9 e41 e43 e44 ?_
  have w := w _ rfl
  refine g_aload_n 11 rfl C dX2_link_10 rfl ?_
  refine g_getR 14 rfl C dX2_link_11 fl_HashHallModel_Pairs_22 rfl e39 rfl ?_
  refine g_iload_n 15 rfl C dX2_link_14 rfl ?_
  refine g_iconst 16 rfl C dX2_link_15 (-1) rfl ?_
  obtain ⟨a46, e47, w⟩ := w
  obtain ⟨j48, e49, e50, w⟩ := w
  refine g_iastore 17 rfl C dX2_link_16 e47 e49 e50 ?_
  have w := w _ rfl
  refine g_aload_n 18 rfl C dX2_link_17 rfl ?_
  refine g_getI 21 rfl C dX2_link_18 fl_HashHallModel_Pairs_32 rfl e39 rfl ?_
  refine g_if_lt 24 37 rfl C dX2_link_21 rfl (fun u52 => ?_) (fun u52 => ?_)
  · have w := w.1 u52
    refine g_aload_n 38 rfl C dX2_link_37 rfl ?_
    refine g_iload_n 39 rfl C dX2_link_38 rfl ?_
    refine g_putI 42 rfl C dX2_link_39 fl_HashHallModel_Pairs_29 rfl rfl e39 rfl ?_
    have w := w _ rfl
    refine g_sub [some none, some none] [] rfl rfl ?_
    exact wk_X2_link_b42 C Rr N _ _ _ w
  · have w := w.2 u52
    refine g_aload_n 25 rfl C dX2_link_24 rfl ?_
    refine g_getR 28 rfl C dX2_link_25 fl_HashHallModel_Pairs_22 rfl e39 rfl ?_
    refine g_aload_n 29 rfl C dX2_link_28 rfl ?_
    refine g_getI 32 rfl C dX2_link_29 fl_HashHallModel_Pairs_32 rfl e39 rfl ?_
    refine g_iload_n 33 rfl C dX2_link_32 rfl ?_
    obtain ⟨a54, e55, w⟩ := w
    obtain ⟨j56, e57, e58, w⟩ := w
    refine g_iastore 34 rfl C dX2_link_33 e55 e57 e58 ?_
    have w := w _ rfl
    refine g_goto 42 C dX2_link_34 rfl ?_
    refine g_sub [some none, some none] [] rfl rfl ?_
    exact wk_X2_link_b42 C Rr N _ _ _ w
theorem ct_X2_link {E : Gx} (GE : Glob E) {h : Hp} {x0 : Option Nat} {x1 : Int32} {K : Hp → Prop} (w : wp_X2_link h x0 x1 K) : Ct E yX2_link cX2_link 2 (Option.none : Option Jvm.ClassFile.FieldType) 2 [vR [15] x0, vI x1] h (pV K) :=
  Ct.of GE (by decide +kernel) (by simp [lvA, t2]) rfl (fun X hX C Rr N => wk_X2_link C Rr N h x0 x1 w)
def wp_X2_unlink_b78 (K : Hp → Prop) (h : Hp)  : Prop :=
  (K h)
set_option maxHeartbeats 4000000 in
theorem wk_X2_unlink_b78 {X : Fx} {K : Hp → Prop} (C : Cx X cX2_unlink yX2_unlink.cls 2 2) (Rr : Rx X (Option.none : Option Jvm.ClassFile.FieldType) (pV K)) (N : Nm X yX2_unlink.name) (h : Hp)  (w : wp_X2_unlink_b78 K h ) : Gd X h 78 [none, none] [] := by
  unfold wp_X2_unlink_b78 at w
  exact g_vreturn C Rr dX2_unlink_78 ⟨rfl, w⟩
def wp_X2_unlink_b39 (K : Hp → Prop) (h : Hp) (l0 : Option Nat) (l1 : Int32) : Prop :=
  (∃ a107, l0 = some a107 ∧ (∃ a109, (rf h 46 a107) = some a109 ∧ (∃ j111, l1 = nI j111 ∧ j111 < ln h a109 ∧ (((it h (100 + j111) a109) < 0 → (∃ a115, (rf h 45 a107) = some a115 ∧ (∃ j117, l1 = nI j117 ∧ j117 < ln h a115 ∧ (∀ h120, h120 = wI h 51 a107 (it h (100 + j117) a115) → (wp_X2_unlink_b78 K h120))))) ∧ (¬ (it h (100 + j111) a109) < 0 → (∃ j121, l1 = nI j121 ∧ j121 < ln h a109 ∧ (∃ a124, (rf h 45 a107) = some a124 ∧ (∃ j126, l1 = nI j126 ∧ j126 < ln h a124 ∧ (∃ j129, (it h (100 + j121) a109) = nI j129 ∧ j129 < ln h a124 ∧ ∀ h132, h132 = wI h (100 + j129) a124 (it h (100 + j126) a124) → (wp_X2_unlink_b78 K h132))))))))))
set_option maxHeartbeats 4000000 in
theorem wk_X2_unlink_b39 {X : Fx} {K : Hp → Prop} (C : Cx X cX2_unlink yX2_unlink.cls 2 2) (Rr : Rx X (Option.none : Option Jvm.ClassFile.FieldType) (pV K)) (N : Nm X yX2_unlink.name) (h : Hp) (l0 : Option Nat) (l1 : Int32) (w : wp_X2_unlink_b39 K h l0 l1) : Gd X h 39 [some (vR [15] l0), some (vI l1)] [] := by
  unfold wp_X2_unlink_b39 at w
  refine g_aload_n 40 rfl C dX2_unlink_39 rfl ?_
  obtain ⟨a107, e108, w⟩ := w
  refine g_getR 43 rfl C dX2_unlink_40 fl_HashHallModel_Pairs_22 rfl e108 rfl ?_
  refine g_iload_n 44 rfl C dX2_unlink_43 rfl ?_
  obtain ⟨a109, e110, w⟩ := w
  obtain ⟨j111, e112, e113, w⟩ := w
  refine g_iaload 45 rfl C dX2_unlink_44 e110 e112 e113 ?_
  refine g_if_lt 48 68 rfl C dX2_unlink_45 rfl (fun u114 => ?_) (fun u114 => ?_)
  · have w := w.1 u114
    refine g_aload_n 69 rfl C dX2_unlink_68 rfl ?_
    refine g_aload_n 70 rfl C dX2_unlink_69 rfl ?_
    refine g_getR 73 rfl C dX2_unlink_70 fl_HashHallModel_Pairs_19 rfl e108 rfl ?_
    refine g_iload_n 74 rfl C dX2_unlink_73 rfl ?_
    obtain ⟨a115, e116, w⟩ := w
    obtain ⟨j117, e118, e119, w⟩ := w
    refine g_iaload 75 rfl C dX2_unlink_74 e116 e118 e119 ?_
    refine g_putI 78 rfl C dX2_unlink_75 fl_HashHallModel_Pairs_32 rfl rfl e108 rfl ?_
    have w := w _ rfl
    refine g_sub [none, none] [] rfl rfl ?_
    exact wk_X2_unlink_b78 C Rr N _ w
  · have w := w.2 u114
    refine g_aload_n 49 rfl C dX2_unlink_48 rfl ?_
    refine g_getR 52 rfl C dX2_unlink_49 fl_HashHallModel_Pairs_19 rfl e108 rfl ?_
    refine g_aload_n 53 rfl C dX2_unlink_52 rfl ?_
    refine g_getR 56 rfl C dX2_unlink_53 fl_HashHallModel_Pairs_22 rfl e108 rfl ?_
    refine g_iload_n 57 rfl C dX2_unlink_56 rfl ?_
    obtain ⟨j121, e122, e123, w⟩ := w
    refine g_iaload 58 rfl C dX2_unlink_57 e110 e122 e123 ?_
    refine g_aload_n 59 rfl C dX2_unlink_58 rfl ?_
    refine g_getR 62 rfl C dX2_unlink_59 fl_HashHallModel_Pairs_19 rfl e108 rfl ?_
    refine g_iload_n 63 rfl C dX2_unlink_62 rfl ?_
    obtain ⟨a124, e125, w⟩ := w
    obtain ⟨j126, e127, e128, w⟩ := w
    refine g_iaload 64 rfl C dX2_unlink_63 e125 e127 e128 ?_
    obtain ⟨j129, e130, e131, w⟩ := w
    refine g_iastore 65 rfl C dX2_unlink_64 e125 e130 e131 ?_
    have w := w _ rfl
    refine g_goto 78 C dX2_unlink_65 rfl ?_
    refine g_sub [none, none] [] rfl rfl ?_
    exact wk_X2_unlink_b78 C Rr N _ w
def wp_X2_unlink (h : Hp) (x0 : Option Nat) (x1 : Int32) (K : Hp → Prop) : Prop :=
  (∃ a81, x0 = some a81 ∧ (∃ a83, (rf h 45 a81) = some a83 ∧ (∃ j85, x1 = nI j85 ∧ j85 < ln h a83 ∧ (((it h (100 + j85) a83) < 0 → (∃ a89, (rf h 46 a81) = some a89 ∧ (∃ j91, x1 = nI j91 ∧ j91 < ln h a89 ∧ (∀ h94, h94 = wI h 50 a81 (it h (100 + j91) a89) → (wp_X2_unlink_b39 K h94 x0 x1))))) ∧ (¬ (it h (100 + j85) a83) < 0 → (∃ j95, x1 = nI j95 ∧ j95 < ln h a83 ∧ (∃ a98, (rf h 46 a81) = some a98 ∧ (∃ j100, x1 = nI j100 ∧ j100 < ln h a98 ∧ (∃ j103, (it h (100 + j95) a83) = nI j103 ∧ j103 < ln h a98 ∧ ∀ h106, h106 = wI h (100 + j103) a98 (it h (100 + j100) a98) → (wp_X2_unlink_b39 K h106 x0 x1))))))))))
set_option maxHeartbeats 4000000 in
theorem wk_X2_unlink {X : Fx} {K : Hp → Prop} (C : Cx X cX2_unlink yX2_unlink.cls 2 2) (Rr : Rx X (Option.none : Option Jvm.ClassFile.FieldType) (pV K)) (N : Nm X yX2_unlink.name) (h : Hp) (x0 : Option Nat) (x1 : Int32) (w : wp_X2_unlink h x0 x1 K) : Gd X h 0 [some (vR [15] x0), some (vI x1)] [] := by
  unfold wp_X2_unlink at w
  refine g_aload_n 1 rfl C dX2_unlink_0 rfl ?_
  obtain ⟨a81, e82, w⟩ := w
  refine g_getR 4 rfl C dX2_unlink_1 fl_HashHallModel_Pairs_19 rfl e82 rfl ?_
  refine g_iload_n 5 rfl C dX2_unlink_4 rfl ?_
  obtain ⟨a83, e84, w⟩ := w
  obtain ⟨j85, e86, e87, w⟩ := w
  refine g_iaload 6 rfl C dX2_unlink_5 e84 e86 e87 ?_
  refine g_if_lt 9 29 rfl C dX2_unlink_6 rfl (fun u88 => ?_) (fun u88 => ?_)
  · have w := w.1 u88
    refine g_aload_n 30 rfl C dX2_unlink_29 rfl ?_
    refine g_aload_n 31 rfl C dX2_unlink_30 rfl ?_
    refine g_getR 34 rfl C dX2_unlink_31 fl_HashHallModel_Pairs_22 rfl e82 rfl ?_
    refine g_iload_n 35 rfl C dX2_unlink_34 rfl ?_
    obtain ⟨a89, e90, w⟩ := w
    obtain ⟨j91, e92, e93, w⟩ := w
    refine g_iaload 36 rfl C dX2_unlink_35 e90 e92 e93 ?_
    refine g_putI 39 rfl C dX2_unlink_36 fl_HashHallModel_Pairs_29 rfl rfl e82 rfl ?_
    have w := w _ rfl
    refine g_sub [some none, some none] [] rfl rfl ?_
    exact wk_X2_unlink_b39 C Rr N _ _ _ w
  · have w := w.2 u88
    refine g_aload_n 10 rfl C dX2_unlink_9 rfl ?_
    refine g_getR 13 rfl C dX2_unlink_10 fl_HashHallModel_Pairs_22 rfl e82 rfl ?_
    refine g_aload_n 14 rfl C dX2_unlink_13 rfl ?_
    refine g_getR 17 rfl C dX2_unlink_14 fl_HashHallModel_Pairs_19 rfl e82 rfl ?_
    refine g_iload_n 18 rfl C dX2_unlink_17 rfl ?_
    obtain ⟨j95, e96, e97, w⟩ := w
    refine g_iaload 19 rfl C dX2_unlink_18 e84 e96 e97 ?_
    refine g_aload_n 20 rfl C dX2_unlink_19 rfl ?_
    refine g_getR 23 rfl C dX2_unlink_20 fl_HashHallModel_Pairs_22 rfl e82 rfl ?_
    refine g_iload_n 24 rfl C dX2_unlink_23 rfl ?_
    obtain ⟨a98, e99, w⟩ := w
    obtain ⟨j100, e101, e102, w⟩ := w
    refine g_iaload 25 rfl C dX2_unlink_24 e99 e101 e102 ?_
    obtain ⟨j103, e104, e105, w⟩ := w
    refine g_iastore 26 rfl C dX2_unlink_25 e99 e104 e105 ?_
    have w := w _ rfl
    refine g_goto 39 C dX2_unlink_26 rfl ?_
    refine g_sub [some none, some none] [] rfl rfl ?_
    exact wk_X2_unlink_b39 C Rr N _ _ _ w
theorem ct_X2_unlink {E : Gx} (GE : Glob E) {h : Hp} {x0 : Option Nat} {x1 : Int32} {K : Hp → Prop} (w : wp_X2_unlink h x0 x1 K) : Ct E yX2_unlink cX2_unlink 2 (Option.none : Option Jvm.ClassFile.FieldType) 2 [vR [15] x0, vI x1] h (pV K) :=
  Ct.of GE (by decide +kernel) (by simp [lvA, t2]) rfl (fun X hX C Rr N => wk_X2_unlink C Rr N h x0 x1 w)
def wp_X2_toLast (h : Hp) (x0 : Option Nat) (x1 : Int32) (K : Hp → Prop) : Prop :=
  (∃ a15, x0 = some a15 ∧ (wp_X2_unlink h x0 x1 (fun h19 => Ex h h19 → (wp_X2_link h19 x0 x1 (fun h24 => Ex h19 h24 → (K h24))))))
set_option maxHeartbeats 4000000 in
theorem wk_X2_toLast {X : Fx} {K : Hp → Prop} (C : Cx X cX2_toLast yX2_toLast.cls 2 3) (Rr : Rx X (Option.none : Option Jvm.ClassFile.FieldType) (pV K)) (N : Nm X yX2_toLast.name) (h : Hp) (x0 : Option Nat) (x1 : Int32) (w : wp_X2_toLast h x0 x1 K) : Gd X h 0 [some (vR [15] x0), some (vI x1)] [] := by
  unfold wp_X2_toLast at w
  refine g_aload_n 1 rfl C dX2_toLast_0 rfl ?_
  refine g_iload_n 2 rfl C dX2_toLast_1 rfl ?_
  obtain ⟨a15, e16, w⟩ := w
  refine g_callV (As := [vI _]) (T := [15]) (st := []) "HashHallModel$Pairs" 5 rfl C dX2_toLast_2 q1207 q1209 qs7 q17 q1210 rfl okn_c2067a (by decide) (by decide) (Nat.le_of_ble_eq_true rfl) e16 (fun q => tC rfl q) rfl (ct_X2_unlink C.glob w) (fun r0 h19 p20 x21 _ => ?_)
  obtain ⟨rfl, w⟩ := p20
  have w := w x21
  change Gd _ _ _ _ []
  refine g_aload_n 6 rfl C dX2_toLast_5 rfl ?_
  refine g_iload_n 7 rfl C dX2_toLast_6 rfl ?_
  refine g_callV (As := [vI _]) (T := [15]) (st := []) "HashHallModel$Pairs" 10 rfl C dX2_toLast_7 q1194 q1196 qs5 q17 q1197 rfl okn_b4b0ad (by decide) (by decide) (Nat.le_of_ble_eq_true rfl) e16 (fun q => tC rfl q) rfl (ct_X2_link C.glob w) (fun r0 h24 p25 x26 _ => ?_)
  obtain ⟨rfl, w⟩ := p25
  have w := w x26
  change Gd _ _ _ _ []
  exact g_vreturn C Rr dX2_toLast_10 ⟨rfl, w⟩
theorem ct_X2_toLast {E : Gx} (GE : Glob E) {h : Hp} {x0 : Option Nat} {x1 : Int32} {K : Hp → Prop} (w : wp_X2_toLast h x0 x1 K) : Ct E yX2_toLast cX2_toLast 2 (Option.none : Option Jvm.ClassFile.FieldType) 3 [vR [15] x0, vI x1] h (pV K) :=
  Ct.of GE (by decide +kernel) (by simp [lvA, t2]) rfl (fun X hX C Rr N => wk_X2_toLast C Rr N h x0 x1 w)
def wp_X1_use_b15 (K : Hp → Prop) (h : Hp)  : Prop :=
  (K h)
set_option maxHeartbeats 4000000 in
theorem wk_X1_use_b15 {X : Fx} {K : Hp → Prop} (C : Cx X cX1_use yX1_use.cls 3 4) (Rr : Rx X (Option.none : Option Jvm.ClassFile.FieldType) (pV K)) (N : Nm X yX1_use.name) (h : Hp)  (w : wp_X1_use_b15 K h ) : Gd X h 15 [none, none, none] [] := by
  unfold wp_X1_use_b15 at w
  exact g_vreturn C Rr dX1_use_15 ⟨rfl, w⟩
def wp_X1_use (h : Hp) (x0 : Option Nat) (x1 : Int32) (x2 : Int32) (K : Hp → Prop) : Prop :=
  ((¬ x1 = 2 → (wp_X1_use_b15 K h)) ∧ (x1 = 2 → (∃ a17, x0 = some a17 ∧ (∃ a19, (rf h 41 a17) = some a19 ∧ (∃ j21, 2 = nI j21 ∧ j21 < ln h a19 ∧ (∃ a24, (rf h (100 + j21) a19) = some a24 ∧ (wp_X2_toLast h (rf h (100 + j21) a19) x2 (fun h28 => Ex h h28 → (wp_X1_use_b15 K h28)))))))))
set_option maxHeartbeats 4000000 in
theorem wk_X1_use {X : Fx} {K : Hp → Prop} (C : Cx X cX1_use yX1_use.cls 3 4) (Rr : Rx X (Option.none : Option Jvm.ClassFile.FieldType) (pV K)) (N : Nm X yX1_use.name) (h : Hp) (x0 : Option Nat) (x1 : Int32) (x2 : Int32) (w : wp_X1_use h x0 x1 x2 K) : Gd X h 0 [some (vR [14] x0), some (vI x1), some (vI x2)] [] := by
  unfold wp_X1_use at w
  refine g_iload_n 1 rfl C dX1_use_0 rfl ?_
  refine g_iconst 2 rfl C dX1_use_1 2 rfl ?_
  refine g_icmp_ne 5 15 rfl C dX1_use_2 rfl (fun u16 => ?_) (fun u16 => ?_)
  · have w := w.1 u16
    refine g_sub [none, none, none] [] rfl rfl ?_
    exact wk_X1_use_b15 C Rr N _ w
  · have w := w.2 u16
    refine g_aload_n 6 rfl C dX1_use_5 rfl ?_
    obtain ⟨a17, e18, w⟩ := w
    refine g_getR 9 rfl C dX1_use_6 fl_HashHallModel_12 rfl e18 rfl ?_
    refine g_iconst 10 rfl C dX1_use_9 2 rfl ?_
    obtain ⟨a19, e20, w⟩ := w
    obtain ⟨j21, e22, e23, w⟩ := w
    refine g_aaload 52 11 rfl C dX1_use_10 (by decide) e20 e22 e23 ?_
    refine g_iload_n 12 rfl C dX1_use_11 rfl ?_
    obtain ⟨a24, e25, w⟩ := w
    refine g_callV (As := [vI _]) (T := [15]) (st := []) "HashHallModel$Pairs" 15 rfl C dX1_use_12 q1203 q1204 q1205 q17 q1206 rfl okn_851c36 (by decide) (by decide) (Nat.le_of_ble_eq_true rfl) e25 (fun q => tC rfl q) rfl (ct_X2_toLast C.glob w) (fun r0 h28 p29 x30 _ => ?_)
    obtain ⟨rfl, w⟩ := p29
    have w := w x30
    change Gd _ _ _ _ []
    refine g_sub [none, none, none] [] rfl rfl ?_
    exact wk_X1_use_b15 C Rr N _ w
theorem ct_X1_use {E : Gx} (GE : Glob E) {h : Hp} {x0 : Option Nat} {x1 : Int32} {x2 : Int32} {K : Hp → Prop} (w : wp_X1_use h x0 x1 x2 K) : Ct E yX1_use cX1_use 3 (Option.none : Option Jvm.ClassFile.FieldType) 4 [vR [14] x0, vI x1, vI x2] h (pV K) :=
  Ct.of GE (by decide +kernel) (by simp [lvA, t2]) rfl (fun X hX C Rr N => wk_X1_use C Rr N h x0 x1 x2 w)
