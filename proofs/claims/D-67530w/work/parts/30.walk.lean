/-! WALKS (printed by emit.py): J0_equals X0_same -/
set_option maxRecDepth 100000
def wp_J0_equals_b114 (K : Int32 → Hp → Prop) (h : Hp)  : Prop :=
  (K 0 h)
set_option maxHeartbeats 4000000 in
theorem wk_J0_equals_b114 {X : Fx} {K : Int32 → Hp → Prop} (C : Cx X cJ0_equals yJ0_equals.cls 7 8) (Rr : Rx X (Option.some Jvm.ClassFile.FieldType.boolean) (pI K)) (N : Nm X yJ0_equals.name) (h : Hp)  (w : wp_J0_equals_b114 K h ) : Gd X h 114 [none, none, none, none, none, none, none] [] := by
  unfold wp_J0_equals_b114 at w
  refine g_iconst 115 rfl C dJ0_equals_114 0 rfl ?_
  exact g_zreturn C Rr dJ0_equals_115 (Or.inl rfl) ⟨_, rfl, w⟩
def wp_J0_equals_b134 (G49 : Hp → Option Nat → Option Nat → Prop) (K : Int32 → Hp → Prop) (h : Hp) (l2 : Option Nat) (l3 : Option Nat) : Prop :=
  (G49 h l2 l3)
set_option maxHeartbeats 4000000 in
theorem wk_J0_equals_b134 {X : Fx} {K : Int32 → Hp → Prop} (C : Cx X cJ0_equals yJ0_equals.cls 7 8) (Rr : Rx X (Option.some Jvm.ClassFile.FieldType.boolean) (pI K)) (N : Nm X yJ0_equals.name) {G49 : Hp → Option Nat → Option Nat → Prop} (k49 : ∀ (h : Hp) (l2 : Option Nat) (l3 : Option Nat), G49 h l2 l3 → Gd X h 49 [none, none, some (vR [2, 3] l2), some (vR [11, 12, 13] l3), none, none, none] []) (h : Hp) (l2 : Option Nat) (l3 : Option Nat) (w : wp_J0_equals_b134 G49 K h l2 l3) : Gd X h 134 [none, none, some (vR [2, 3] l2), some (vR [11, 12, 13] l3), none, none, none] [] := by
  unfold wp_J0_equals_b134 at w
  refine g_goto 49 C dJ0_equals_134 rfl ?_
  refine g_sub [none, none, some none, some none, none, none, none] [] rfl rfl ?_
  exact k49 _ _ _ w
def wp_J0_equals_b111 (G49 : Hp → Option Nat → Option Nat → Prop) (K : Int32 → Hp → Prop) (h : Hp) (l2 : Option Nat) (l3 : Option Nat) (s0 : Int32) : Prop :=
  ((¬ s0 = 0 → (wp_J0_equals_b134 G49 K h l2 l3)) ∧ (s0 = 0 → (wp_J0_equals_b114 K h)))
set_option maxHeartbeats 4000000 in
theorem wk_J0_equals_b111 {X : Fx} {K : Int32 → Hp → Prop} (C : Cx X cJ0_equals yJ0_equals.cls 7 8) (Rr : Rx X (Option.some Jvm.ClassFile.FieldType.boolean) (pI K)) (N : Nm X yJ0_equals.name) {G49 : Hp → Option Nat → Option Nat → Prop} (k49 : ∀ (h : Hp) (l2 : Option Nat) (l3 : Option Nat), G49 h l2 l3 → Gd X h 49 [none, none, some (vR [2, 3] l2), some (vR [11, 12, 13] l3), none, none, none] []) (h : Hp) (l2 : Option Nat) (l3 : Option Nat) (s0 : Int32) (w : wp_J0_equals_b111 G49 K h l2 l3 s0) : Gd X h 111 [none, none, some (vR [2, 3] l2), some (vR [11, 12, 13] l3), none, none, none] [vI s0] := by
  unfold wp_J0_equals_b111 at w
  refine g_if_ne 114 134 rfl C dJ0_equals_111 rfl (fun u224 => ?_) (fun u224 => ?_)
  · have w := w.1 u224
    refine g_sub [none, none, some none, some none, none, none, none] [] rfl rfl ?_
    exact wk_J0_equals_b134 C Rr N k49 _ _ _ w
  · have w := w.2 u224
    refine g_sub [none, none, none, none, none, none, none] [] rfl rfl ?_
    exact wk_J0_equals_b114 C Rr N _ w
def wp_J0_equals_b100 (G49 : Hp → Option Nat → Option Nat → Prop) (K : Int32 → Hp → Prop) (h : Hp) (l2 : Option Nat) (l3 : Option Nat) (l5 : Option Nat) (s0 : Option Nat) : Prop :=
  ((s0 = none → (∃ a189, l2 = some a189 ∧ (wp_J1_containsKey h l2 l5 (fun r192 h193 => Ex h h193 → (wp_J0_equals_b111 G49 K h193 l2 l3 r192))))) ∧ (∀ a188, s0 = some a188 → (wp_J0_equals_b114 K h)))
set_option maxHeartbeats 4000000 in
theorem wk_J0_equals_b100 {X : Fx} {K : Int32 → Hp → Prop} (C : Cx X cJ0_equals yJ0_equals.cls 7 8) (Rr : Rx X (Option.some Jvm.ClassFile.FieldType.boolean) (pI K)) (N : Nm X yJ0_equals.name) {G49 : Hp → Option Nat → Option Nat → Prop} (k49 : ∀ (h : Hp) (l2 : Option Nat) (l3 : Option Nat), G49 h l2 l3 → Gd X h 49 [none, none, some (vR [2, 3] l2), some (vR [11, 12, 13] l3), none, none, none] []) (h : Hp) (l2 : Option Nat) (l3 : Option Nat) (l5 : Option Nat) (s0 : Option Nat) (w : wp_J0_equals_b100 G49 K h l2 l3 l5 s0) : Gd X h 100 [none, none, some (vR [2, 3] l2), some (vR [11, 12, 13] l3), none, some (vR [4, 60] l5), none] [vR [4, 60] s0] := by
  unfold wp_J0_equals_b100 at w
  refine g_ifnonnull 103 114 rfl C dJ0_equals_100 rfl (fun a188 u187 => ?_) (fun u187 => ?_)
  · have w := w.2 a188 u187
    refine g_sub [none, none, none, none, none, none, none] [] rfl rfl ?_
    exact wk_J0_equals_b114 C Rr N _ w
  · have w := w.1 u187
    refine g_aload_n 104 rfl C dJ0_equals_103 rfl ?_
    refine g_aload 106 rfl C dJ0_equals_104 rfl ?_
    obtain ⟨a189, e190, w⟩ := w
    refine g_known 1 rfl e190 (fun k191 => ?_)
    have k191 : kd _ _ ∈ [2, 3] := k191
    simp only [List.mem_cons, List.not_mem_nil, or_false] at k191
    rcases k191 with k191 | k191
    · refine g_callF (As := [vR [4, 60] _]) (T := [2, 3]) (st := []) "java/util/HashMap" 111 rfl C dJ0_equals_106 q1085 q1088 q580 q11 q584 q1087 q1086 q1090 q1089 q863 okn_ffd7d2 (by decide) (by decide) (Nat.le_of_ble_eq_true rfl) e190 (fun _ => kC rfl k191) rfl (ct_J1_containsKey C.glob w) (fun r0 h193 p194 x195 _ => ?_)
      obtain ⟨r192, rfl, w⟩ := p194
      have w := w x195
      change Gd _ _ _ _ (vI r192 :: [])
      refine g_sub [none, none, some none, some none, none, none, none] [none] rfl rfl ?_
      exact wk_J0_equals_b111 C Rr N k49 _ _ _ _ w
    · refine g_callF (As := [vR [4, 60] _]) (T := [2, 3]) (st := []) "java/util/LinkedHashMap" 111 rfl C dJ0_equals_106 q1085 q1091 q580 q11 q584 q1087 q1086 q1090 q1092 q867 okn_ffd7d2 (by decide) (by decide) (Nat.le_of_ble_eq_true rfl) e190 (fun _ => kC rfl k191) rfl (ct_J1_containsKey C.glob w) (fun r0 h193 p194 x195 _ => ?_)
      obtain ⟨r192, rfl, w⟩ := p194
      have w := w x195
      change Gd _ _ _ _ (vI r192 :: [])
      refine g_sub [none, none, some none, some none, none, none, none] [none] rfl rfl ?_
      exact wk_J0_equals_b111 C Rr N k49 _ _ _ _ w
def wp_J0_equals_b126 (G49 : Hp → Option Nat → Option Nat → Prop) (K : Int32 → Hp → Prop) (h : Hp) (l2 : Option Nat) (l3 : Option Nat) (s0 : Option Nat) (s1 : Option Nat) : Prop :=
  (∃ a291, s1 = some a291 ∧ (wp_J5_equals h s1 s0 (fun r294 h295 => Ex h h295 → ((¬ r294 = 0 → (wp_J0_equals_b134 G49 K h295 l2 l3)) ∧ (r294 = 0 → (K 0 h295))))))
set_option maxHeartbeats 4000000 in
theorem wk_J0_equals_b126 {X : Fx} {K : Int32 → Hp → Prop} (C : Cx X cJ0_equals yJ0_equals.cls 7 8) (Rr : Rx X (Option.some Jvm.ClassFile.FieldType.boolean) (pI K)) (N : Nm X yJ0_equals.name) {G49 : Hp → Option Nat → Option Nat → Prop} (k49 : ∀ (h : Hp) (l2 : Option Nat) (l3 : Option Nat), G49 h l2 l3 → Gd X h 49 [none, none, some (vR [2, 3] l2), some (vR [11, 12, 13] l3), none, none, none] []) (h : Hp) (l2 : Option Nat) (l3 : Option Nat) (s0 : Option Nat) (s1 : Option Nat) (w : wp_J0_equals_b126 G49 K h l2 l3 s0 s1) : Gd X h 126 [none, none, some (vR [2, 3] l2), some (vR [11, 12, 13] l3), none, none, none] [vR [4, 60] s0, vR [4, 60] s1] := by
  unfold wp_J0_equals_b126 at w
  obtain ⟨a291, e292, w⟩ := w
  refine g_callU (As := [vR [4, 60] _]) (T := [4, 60]) (st := []) "java/lang/Integer" 129 rfl C dJ0_equals_126 q1093 q384 dcl_e59518 q388 q389 q15 q390 okn_ad8bbc (by decide) (by decide) (Nat.le_of_ble_eq_true rfl) e292 (fun q => tC rfl q) rfl (ct_J5_equals C.glob w) (fun r0 h295 p296 x297 _ => ?_)
  obtain ⟨r294, rfl, w⟩ := p296
  have w := w x297
  change Gd _ _ _ _ (vI r294 :: [])
  refine g_if_ne 132 134 rfl C dJ0_equals_129 rfl (fun u298 => ?_) (fun u298 => ?_)
  · have w := w.1 u298
    refine g_sub [none, none, some none, some none, none, none, none] [] rfl rfl ?_
    exact wk_J0_equals_b134 C Rr N k49 _ _ _ w
  · have w := w.2 u298
    refine g_iconst 133 rfl C dJ0_equals_132 0 rfl ?_
    exact g_zreturn C Rr dJ0_equals_133 (Or.inl rfl) ⟨_, rfl, w⟩
def wp_J0_equals_b85 (G49 : Hp → Option Nat → Option Nat → Prop) (K : Int32 → Hp → Prop) (h : Hp) (l2 : Option Nat) (l3 : Option Nat) (l5 : Option Nat) (s0 : Option Nat) : Prop :=
  ((s0 = none → ((∃ a241, l2 = some a241 ∧ (kd h a241 = 2 ∧ (wp_J1_get h l2 l5 (fun r244 h245 => Ex h h245 → (wp_J0_equals_b100 G49 K h245 l2 l3 l5 r244))))) ∨ (∃ a248, l2 = some a248 ∧ (kd h a248 = 3 ∧ (wp_J2_get h l2 l5 (fun r251 h252 => Ex h h252 → (wp_J0_equals_b100 G49 K h252 l2 l3 l5 r251))))))) ∧ (∀ a240, s0 = some a240 → ((∃ a255, l2 = some a255 ∧ (kd h a255 = 2 ∧ (wp_J1_get h l2 l5 (fun r258 h259 => Ex h h259 → (wp_J0_equals_b126 G49 K h259 l2 l3 r258 s0))))) ∨ (∃ a262, l2 = some a262 ∧ (kd h a262 = 3 ∧ (wp_J2_get h l2 l5 (fun r265 h266 => Ex h h266 → (wp_J0_equals_b126 G49 K h266 l2 l3 r265 s0))))))))
set_option maxHeartbeats 4000000 in
theorem wk_J0_equals_b85 {X : Fx} {K : Int32 → Hp → Prop} (C : Cx X cJ0_equals yJ0_equals.cls 7 8) (Rr : Rx X (Option.some Jvm.ClassFile.FieldType.boolean) (pI K)) (N : Nm X yJ0_equals.name) {G49 : Hp → Option Nat → Option Nat → Prop} (k49 : ∀ (h : Hp) (l2 : Option Nat) (l3 : Option Nat), G49 h l2 l3 → Gd X h 49 [none, none, some (vR [2, 3] l2), some (vR [11, 12, 13] l3), none, none, none] []) (h : Hp) (l2 : Option Nat) (l3 : Option Nat) (l5 : Option Nat) (s0 : Option Nat) (w : wp_J0_equals_b85 G49 K h l2 l3 l5 s0) : Gd X h 85 [none, none, some (vR [2, 3] l2), some (vR [11, 12, 13] l3), none, some (vR [4, 60] l5), none] [vR [4, 60] s0] := by
  unfold wp_J0_equals_b85 at w
  refine g_astore 87 rfl C dJ0_equals_85 (by decide) (rfl : _ = [none, none, some (vR [2, 3] _), some (vR [11, 12, 13] _), none, some (vR [4, 60] _), some (vR [4, 60] _)]) ?_
  refine g_aload 89 rfl C dJ0_equals_87 rfl ?_
  refine g_ifnonnull 92 116 rfl C dJ0_equals_89 rfl (fun a240 u239 => ?_) (fun u239 => ?_)
  · have w := w.2 a240 u239
    refine g_aload 118 rfl C dJ0_equals_116 rfl ?_
    refine g_aload_n 119 rfl C dJ0_equals_118 rfl ?_
    refine g_aload 121 rfl C dJ0_equals_119 rfl ?_
    rcases w with w | w
    · obtain ⟨a255, e256, w⟩ := w
      obtain ⟨k257, w⟩ := w
      refine g_callF (As := [vR [4, 60] _]) (T := [2, 3]) (st := [vR [4, 60] _]) "java/util/HashMap" 126 rfl C dJ0_equals_121 q1075 q1078 q503 q11 q520 q1077 q1076 q1080 q1079 q863 okn_18604e (by decide) (by decide) (Nat.le_of_ble_eq_true rfl) e256 (fun _ => kC rfl k257) rfl (ct_J1_get C.glob w) (fun r0 h259 p260 x261 _ => ?_)
      obtain ⟨r258, rfl, w⟩ := p260
      have w := w x261
      change Gd _ _ _ _ (vR [4, 60] r258 :: [vR [4, 60] _])
      refine g_sub [none, none, some none, some none, none, none, none] [none, none] rfl rfl ?_
      exact wk_J0_equals_b126 C Rr N k49 _ _ _ _ _ w
    · obtain ⟨a262, e263, w⟩ := w
      obtain ⟨k264, w⟩ := w
      refine g_nar 1 [3] rfl e263 (by rw [k264]; decide) ?_
      refine g_callF (As := [vR [4, 60] _]) (T := [3]) (st := [vR [4, 60] _]) "java/util/LinkedHashMap" 126 rfl C dJ0_equals_121 q1075 q1081 q507 q12 q508 q1077 q1076 q1083 q1082 q867 okn_18604e (by decide) (by decide) (Nat.le_of_ble_eq_true rfl) e263 (fun _ => kC rfl k264) rfl (ct_J2_get C.glob w) (fun r0 h266 p267 x268 _ => ?_)
      obtain ⟨r265, rfl, w⟩ := p267
      have w := w x268
      change Gd _ _ _ _ (vR [4, 60] r265 :: [vR [4, 60] _])
      refine g_sub [none, none, some none, some none, none, none, none] [none, none] rfl rfl ?_
      exact wk_J0_equals_b126 C Rr N k49 _ _ _ _ _ w
  · have w := w.1 u239
    refine g_aload_n 93 rfl C dJ0_equals_92 rfl ?_
    refine g_aload 95 rfl C dJ0_equals_93 rfl ?_
    rcases w with w | w
    · obtain ⟨a241, e242, w⟩ := w
      obtain ⟨k243, w⟩ := w
      refine g_callF (As := [vR [4, 60] _]) (T := [2, 3]) (st := []) "java/util/HashMap" 100 rfl C dJ0_equals_95 q1075 q1078 q503 q11 q520 q1077 q1076 q1080 q1079 q863 okn_18604e (by decide) (by decide) (Nat.le_of_ble_eq_true rfl) e242 (fun _ => kC rfl k243) rfl (ct_J1_get C.glob w) (fun r0 h245 p246 x247 _ => ?_)
      obtain ⟨r244, rfl, w⟩ := p246
      have w := w x247
      change Gd _ _ _ _ (vR [4, 60] r244 :: [])
      refine g_sub [none, none, some none, some none, none, some none, none] [none] rfl rfl ?_
      exact wk_J0_equals_b100 C Rr N k49 _ _ _ _ _ w
    · obtain ⟨a248, e249, w⟩ := w
      obtain ⟨k250, w⟩ := w
      refine g_nar 1 [3] rfl e249 (by rw [k250]; decide) ?_
      refine g_callF (As := [vR [4, 60] _]) (T := [3]) (st := []) "java/util/LinkedHashMap" 100 rfl C dJ0_equals_95 q1075 q1081 q507 q12 q508 q1077 q1076 q1083 q1082 q867 okn_18604e (by decide) (by decide) (Nat.le_of_ble_eq_true rfl) e249 (fun _ => kC rfl k250) rfl (ct_J2_get C.glob w) (fun r0 h252 p253 x254 _ => ?_)
      obtain ⟨r251, rfl, w⟩ := p253
      have w := w x254
      change Gd _ _ _ _ (vR [4, 60] r251 :: [])
      refine g_sub [none, none, some none, some none, none, some none, none] [none] rfl rfl ?_
      exact wk_J0_equals_b100 C Rr N k49 _ _ _ _ _ w
def wp_J0_equals_b76 (G49 : Hp → Option Nat → Option Nat → Prop) (K : Int32 → Hp → Prop) (h : Hp) (l2 : Option Nat) (l3 : Option Nat) (l4 : Option Nat) (s0 : Option Nat) : Prop :=
  (∃ a217, l4 = some a217 ∧ (wp_J6_getValue h l4 (fun r220 h221 => Ex h h221 → (wp_J0_equals_b85 G49 K h221 l2 l3 s0 r220))))
set_option maxHeartbeats 4000000 in
theorem wk_J0_equals_b76 {X : Fx} {K : Int32 → Hp → Prop} (C : Cx X cJ0_equals yJ0_equals.cls 7 8) (Rr : Rx X (Option.some Jvm.ClassFile.FieldType.boolean) (pI K)) (N : Nm X yJ0_equals.name) {G49 : Hp → Option Nat → Option Nat → Prop} (k49 : ∀ (h : Hp) (l2 : Option Nat) (l3 : Option Nat), G49 h l2 l3 → Gd X h 49 [none, none, some (vR [2, 3] l2), some (vR [11, 12, 13] l3), none, none, none] []) (h : Hp) (l2 : Option Nat) (l3 : Option Nat) (l4 : Option Nat) (s0 : Option Nat) (w : wp_J0_equals_b76 G49 K h l2 l3 l4 s0) : Gd X h 76 [none, none, some (vR [2, 3] l2), some (vR [11, 12, 13] l3), some (vR [5, 6, 7] l4), none, none] [vR [4, 60] s0] := by
  unfold wp_J0_equals_b76 at w
  refine g_astore 78 rfl C dJ0_equals_76 (by decide) (rfl : _ = [none, none, some (vR [2, 3] _), some (vR [11, 12, 13] _), some (vR [5, 6, 7] _), some (vR [4, 60] _), none]) ?_
  refine g_aload 80 rfl C dJ0_equals_78 rfl ?_
  obtain ⟨a217, e218, w⟩ := w
  refine g_known 0 rfl e218 (fun k219 => ?_)
  have k219 : kd _ _ ∈ [5, 6, 7] := k219
  simp only [List.mem_cons, List.not_mem_nil, or_false] at k219
  rcases k219 with k219 | k219 | k219
  · refine g_callF (As := []) (T := [5, 6, 7]) (st := []) "java/util/HashMap$Node" 85 rfl C dJ0_equals_80 q1073 q963 q965 q19 q967 q962 q961 q966 q964 q949 okn_b350bc (by decide) (by decide) (Nat.le_of_ble_eq_true rfl) e218 (fun _ => kC rfl k219) rfl (ct_J6_getValue C.glob w) (fun r0 h221 p222 x223 _ => ?_)
    obtain ⟨r220, rfl, w⟩ := p222
    have w := w x223
    change Gd _ _ _ _ (vR [4, 60] r220 :: [])
    refine g_sub [none, none, some none, some none, none, some none, none] [none] rfl rfl ?_
    exact wk_J0_equals_b85 C Rr N k49 _ _ _ _ _ w
  · refine g_callF (As := []) (T := [5, 6, 7]) (st := []) "java/util/LinkedHashMap$Entry" 85 rfl C dJ0_equals_80 q1073 q970 q965 q19 q967 q962 q961 q966 q971 q956 okn_b350bc (by decide) (by decide) (Nat.le_of_ble_eq_true rfl) e218 (fun _ => kC rfl k219) rfl (ct_J6_getValue C.glob w) (fun r0 h221 p222 x223 _ => ?_)
    obtain ⟨r220, rfl, w⟩ := p222
    have w := w x223
    change Gd _ _ _ _ (vR [4, 60] r220 :: [])
    refine g_sub [none, none, some none, some none, none, some none, none] [none] rfl rfl ?_
    exact wk_J0_equals_b85 C Rr N k49 _ _ _ _ _ w
  · refine g_callF (As := []) (T := [5, 6, 7]) (st := []) "java/util/HashMap$TreeNode" 85 rfl C dJ0_equals_80 q1073 q968 q965 q19 q967 q962 q961 q966 q969 q953 okn_b350bc (by decide) (by decide) (Nat.le_of_ble_eq_true rfl) e218 (fun _ => kC rfl k219) rfl (ct_J6_getValue C.glob w) (fun r0 h221 p222 x223 _ => ?_)
    obtain ⟨r220, rfl, w⟩ := p222
    have w := w x223
    change Gd _ _ _ _ (vR [4, 60] r220 :: [])
    refine g_sub [none, none, some none, some none, none, some none, none] [none] rfl rfl ?_
    exact wk_J0_equals_b85 C Rr N k49 _ _ _ _ _ w
def wp_J0_equals_b64 (G49 : Hp → Option Nat → Option Nat → Prop) (K : Int32 → Hp → Prop) (h : Hp) (l2 : Option Nat) (l3 : Option Nat) (s0 : Option Nat) : Prop :=
  ((∀ a, s0 = some a → kd h a ∈ [5, 6, 7]) ∧ (∃ a156, s0 = some a156 ∧ (wp_J6_getKey h s0 (fun r159 h160 => Ex h h160 → (wp_J0_equals_b76 G49 K h160 l2 l3 s0 r159)))))
set_option maxHeartbeats 4000000 in
theorem wk_J0_equals_b64 {X : Fx} {K : Int32 → Hp → Prop} (C : Cx X cJ0_equals yJ0_equals.cls 7 8) (Rr : Rx X (Option.some Jvm.ClassFile.FieldType.boolean) (pI K)) (N : Nm X yJ0_equals.name) {G49 : Hp → Option Nat → Option Nat → Prop} (k49 : ∀ (h : Hp) (l2 : Option Nat) (l3 : Option Nat), G49 h l2 l3 → Gd X h 49 [none, none, some (vR [2, 3] l2), some (vR [11, 12, 13] l3), none, none, none] []) (h : Hp) (l2 : Option Nat) (l3 : Option Nat) (s0 : Option Nat) (w : wp_J0_equals_b64 G49 K h l2 l3 s0) : Gd X h 64 [none, none, some (vR [2, 3] l2), some (vR [11, 12, 13] l3), none, none, none] [vR [4, 5, 6, 7, 60] s0] := by
  unfold wp_J0_equals_b64 at w
  obtain ⟨k155, w⟩ := w
  refine g_cast [5, 6, 7] 67 rfl C dJ0_equals_64 q1069 co_Map_Entry_5_6_7 (fun a q _ => k155 a q) ?_
  refine g_astore 69 rfl C dJ0_equals_67 (by decide) (rfl : _ = [none, none, some (vR [2, 3] _), some (vR [11, 12, 13] _), some (vR [5, 6, 7] _), none, none]) ?_
  refine g_aload 71 rfl C dJ0_equals_69 rfl ?_
  obtain ⟨a156, e157, w⟩ := w
  refine g_known 0 rfl e157 (fun k158 => ?_)
  have k158 : kd _ _ ∈ [5, 6, 7] := k158
  simp only [List.mem_cons, List.not_mem_nil, or_false] at k158
  rcases k158 with k158 | k158 | k158
  · refine g_callF (As := []) (T := [5, 6, 7]) (st := []) "java/util/HashMap$Node" 76 rfl C dJ0_equals_71 q1071 q950 q845 q19 q846 q948 q947 q952 q951 q949 okn_e82fcc (by decide) (by decide) (Nat.le_of_ble_eq_true rfl) e157 (fun _ => kC rfl k158) rfl (ct_J6_getKey C.glob w) (fun r0 h160 p161 x162 _ => ?_)
    obtain ⟨r159, rfl, w⟩ := p161
    have w := w x162
    change Gd _ _ _ _ (vR [4, 60] r159 :: [])
    refine g_sub [none, none, some none, some none, some none, none, none] [none] rfl rfl ?_
    exact wk_J0_equals_b76 C Rr N k49 _ _ _ _ _ w
  · refine g_callF (As := []) (T := [5, 6, 7]) (st := []) "java/util/LinkedHashMap$Entry" 76 rfl C dJ0_equals_71 q1071 q957 q845 q19 q846 q948 q947 q952 q958 q956 okn_e82fcc (by decide) (by decide) (Nat.le_of_ble_eq_true rfl) e157 (fun _ => kC rfl k158) rfl (ct_J6_getKey C.glob w) (fun r0 h160 p161 x162 _ => ?_)
    obtain ⟨r159, rfl, w⟩ := p161
    have w := w x162
    change Gd _ _ _ _ (vR [4, 60] r159 :: [])
    refine g_sub [none, none, some none, some none, some none, none, none] [none] rfl rfl ?_
    exact wk_J0_equals_b76 C Rr N k49 _ _ _ _ _ w
  · refine g_callF (As := []) (T := [5, 6, 7]) (st := []) "java/util/HashMap$TreeNode" 76 rfl C dJ0_equals_71 q1071 q954 q845 q19 q846 q948 q947 q952 q955 q953 okn_e82fcc (by decide) (by decide) (Nat.le_of_ble_eq_true rfl) e157 (fun _ => kC rfl k158) rfl (ct_J6_getKey C.glob w) (fun r0 h160 p161 x162 _ => ?_)
    obtain ⟨r159, rfl, w⟩ := p161
    have w := w x162
    change Gd _ _ _ _ (vR [4, 60] r159 :: [])
    refine g_sub [none, none, some none, some none, some none, none, none] [none] rfl rfl ?_
    exact wk_J0_equals_b76 C Rr N k49 _ _ _ _ _ w
def wp_J0_equals_b55 (G49 : Hp → Option Nat → Option Nat → Prop) (K : Int32 → Hp → Prop) (h : Hp) (l2 : Option Nat) (l3 : Option Nat) (s0 : Int32) : Prop :=
  ((s0 = 0 → (K 1 h)) ∧ (¬ s0 = 0 → ((∃ a270, l3 = some a270 ∧ (kd h a270 = 11 ∧ (wp_J17_next h l3 (fun r273 h274 => Ex h h274 → (wp_J0_equals_b64 G49 K h274 l2 l3 r273))))) ∨ (∃ a277, l3 = some a277 ∧ (kd h a277 = 12 ∧ (wp_J16_next h l3 (fun r280 h281 => Ex h h281 → (wp_J0_equals_b64 G49 K h281 l2 l3 r280))))) ∨ (∃ a284, l3 = some a284 ∧ (kd h a284 = 13 ∧ (wp_J19_next h l3 (fun r287 h288 => Ex h h288 → (wp_J0_equals_b64 G49 K h288 l2 l3 r287))))))))
set_option maxHeartbeats 4000000 in
theorem wk_J0_equals_b55 {X : Fx} {K : Int32 → Hp → Prop} (C : Cx X cJ0_equals yJ0_equals.cls 7 8) (Rr : Rx X (Option.some Jvm.ClassFile.FieldType.boolean) (pI K)) (N : Nm X yJ0_equals.name) {G49 : Hp → Option Nat → Option Nat → Prop} (k49 : ∀ (h : Hp) (l2 : Option Nat) (l3 : Option Nat), G49 h l2 l3 → Gd X h 49 [none, none, some (vR [2, 3] l2), some (vR [11, 12, 13] l3), none, none, none] []) (h : Hp) (l2 : Option Nat) (l3 : Option Nat) (s0 : Int32) (w : wp_J0_equals_b55 G49 K h l2 l3 s0) : Gd X h 55 [none, none, some (vR [2, 3] l2), some (vR [11, 12, 13] l3), none, none, none] [vI s0] := by
  unfold wp_J0_equals_b55 at w
  refine g_if_eq 58 137 rfl C dJ0_equals_55 rfl (fun u269 => ?_) (fun u269 => ?_)
  · have w := w.1 u269
    refine g_goto 143 C dJ0_equals_137 rfl ?_
    refine g_iconst 144 rfl C dJ0_equals_143 1 rfl ?_
    exact g_zreturn C Rr dJ0_equals_144 (Or.inr rfl) ⟨_, rfl, w⟩
  · have w := w.2 u269
    refine g_aload_n 59 rfl C dJ0_equals_58 rfl ?_
    rcases w with w | w | w
    · obtain ⟨a270, e271, w⟩ := w
      obtain ⟨k272, w⟩ := w
      refine g_nar 0 [11] rfl e271 (by rw [k272]; decide) ?_
      refine g_callF (As := []) (T := [11]) (st := []) "java/util/HashMap$KeyIterator" 64 rfl C dJ0_equals_59 q1068 q809 q811 q31 q813 q793 q792 q812 q810 q778 okn_a0cf24 (by decide) (by decide) (Nat.le_of_ble_eq_true rfl) e271 (fun _ => kC rfl k272) rfl (ct_J17_next C.glob w) (fun r0 h274 p275 x276 _ => ?_)
      obtain ⟨r273, rfl, w⟩ := p275
      have w := w x276
      change Gd _ _ _ _ (vR [4, 60] r273 :: [])
      refine g_sub [none, none, some none, some none, none, none, none] [some [4, 5, 6, 7, 60]] rfl rfl ?_
      exact wk_J0_equals_b64 C Rr N k49 _ _ _ _ w
    · obtain ⟨a277, e278, w⟩ := w
      obtain ⟨k279, w⟩ := w
      refine g_nar 0 [12] rfl e278 (by rw [k279]; decide) ?_
      refine g_callF (As := []) (T := [12]) (st := []) "java/util/HashMap$EntryIterator" 64 rfl C dJ0_equals_59 q1068 q794 q796 q30 q798 q793 q792 q797 q795 q772 okn_a0cf24 (by decide) (by decide) (Nat.le_of_ble_eq_true rfl) e278 (fun _ => kC rfl k279) rfl (ct_J16_next C.glob w) (fun r0 h281 p282 x283 _ => ?_)
      obtain ⟨r280, rfl, w⟩ := p282
      have w := w x283
      change Gd _ _ _ _ (vR [5, 6, 7] r280 :: [])
      refine g_sub [none, none, some none, some none, none, none, none] [some [4, 5, 6, 7, 60]] rfl rfl ?_
      exact wk_J0_equals_b64 C Rr N k49 _ _ _ _ w
    · obtain ⟨a284, e285, w⟩ := w
      obtain ⟨k286, w⟩ := w
      refine g_nar 0 [13] rfl e285 (by rw [k286]; decide) ?_
      refine g_callF (As := []) (T := [13]) (st := []) "java/util/LinkedHashMap$LinkedEntryIterator" 64 rfl C dJ0_equals_59 q1068 q817 q819 q33 q821 q793 q792 q820 q818 q781 okn_a0cf24 (by decide) (by decide) (Nat.le_of_ble_eq_true rfl) e285 (fun _ => kC rfl k286) rfl (ct_J19_next C.glob w) (fun r0 h288 p289 x290 _ => ?_)
      obtain ⟨r287, rfl, w⟩ := p289
      have w := w x290
      change Gd _ _ _ _ (vR [6, 7] r287 :: [])
      refine g_sub [none, none, some none, some none, none, none, none] [some [4, 5, 6, 7, 60]] rfl rfl ?_
      exact wk_J0_equals_b64 C Rr N k49 _ _ _ _ w
def wp_J0_equals_b49 (K : Int32 → Hp → Prop) : Nat → Hp → Option Nat → Option Nat → Prop
  | 0 => fun _ _ _ => False
  | m9 + 1 => fun h l2 l3 =>
    ((∃ a225, l3 = some a225 ∧ (kd h a225 ∈ [11, 12] ∧ (wp_J15_hasNext h l3 (fun r228 h229 => Ex h h229 → (wp_J0_equals_b55 (wp_J0_equals_b49 K m9) K h229 l2 l3 r228))))) ∨ (∃ a232, l3 = some a232 ∧ (kd h a232 = 13 ∧ (wp_J18_hasNext h l3 (fun r235 h236 => Ex h h236 → (wp_J0_equals_b55 (wp_J0_equals_b49 K m9) K h236 l2 l3 r235))))))
set_option maxHeartbeats 4000000 in
theorem wk_J0_equals_b49 {X : Fx} {K : Int32 → Hp → Prop} (C : Cx X cJ0_equals yJ0_equals.cls 7 8) (Rr : Rx X (Option.some Jvm.ClassFile.FieldType.boolean) (pI K)) (N : Nm X yJ0_equals.name) : ∀ (n : Nat) (h : Hp) (l2 : Option Nat) (l3 : Option Nat), wp_J0_equals_b49 K n h l2 l3 → Gd X h 49 [none, none, some (vR [2, 3] l2), some (vR [11, 12, 13] l3), none, none, none] [] := by
  intro n
  induction n with
  | zero => intro h l2 l3 w; exact w.elim
  | succ n ih =>
    intro h l2 l3 w
    unfold wp_J0_equals_b49 at w
    refine g_aload_n 50 rfl C dJ0_equals_49 rfl ?_
    rcases w with w | w
    · obtain ⟨a225, e226, w⟩ := w
      obtain ⟨k227, w⟩ := w
      have k227 : kd _ _ ∈ [11, 12] := k227
      simp only [List.mem_cons, List.not_mem_nil, or_false] at k227
      rcases k227 with k227 | k227
      · refine g_nar 0 [11, 12] rfl e226 (by rw [k227]; decide) ?_
        refine g_callF (As := []) (T := [11, 12]) (st := []) "java/util/HashMap$KeyIterator" 55 rfl C dJ0_equals_50 q1066 q779 q775 q29 q777 q771 q770 q776 q780 q778 okn_1bd07e (by decide) (by decide) (Nat.le_of_ble_eq_true rfl) e226 (fun _ => kC rfl k227) rfl (ct_J15_hasNext C.glob w) (fun r0 h229 p230 x231 _ => ?_)
        obtain ⟨r228, rfl, w⟩ := p230
        have w := w x231
        change Gd _ _ _ _ (vI r228 :: [])
        refine g_sub [none, none, some none, some none, none, none, none] [none] rfl rfl ?_
        exact wk_J0_equals_b55 C Rr N ih _ _ _ _ w
      · refine g_nar 0 [11, 12] rfl e226 (by rw [k227]; decide) ?_
        refine g_callF (As := []) (T := [11, 12]) (st := []) "java/util/HashMap$EntryIterator" 55 rfl C dJ0_equals_50 q1066 q773 q775 q29 q777 q771 q770 q776 q774 q772 okn_1bd07e (by decide) (by decide) (Nat.le_of_ble_eq_true rfl) e226 (fun _ => kC rfl k227) rfl (ct_J15_hasNext C.glob w) (fun r0 h229 p230 x231 _ => ?_)
        obtain ⟨r228, rfl, w⟩ := p230
        have w := w x231
        change Gd _ _ _ _ (vI r228 :: [])
        refine g_sub [none, none, some none, some none, none, none, none] [none] rfl rfl ?_
        exact wk_J0_equals_b55 C Rr N ih _ _ _ _ w
    · obtain ⟨a232, e233, w⟩ := w
      obtain ⟨k234, w⟩ := w
      refine g_nar 0 [13] rfl e233 (by rw [k234]; decide) ?_
      refine g_callF (As := []) (T := [13]) (st := []) "java/util/LinkedHashMap$LinkedEntryIterator" 55 rfl C dJ0_equals_50 q1066 q782 q784 q32 q786 q771 q770 q785 q783 q781 okn_1bd07e (by decide) (by decide) (Nat.le_of_ble_eq_true rfl) e233 (fun _ => kC rfl k234) rfl (ct_J18_hasNext C.glob w) (fun r0 h236 p237 x238 _ => ?_)
      obtain ⟨r235, rfl, w⟩ := p237
      have w := w x238
      change Gd _ _ _ _ (vI r235 :: [])
      refine g_sub [none, none, some none, some none, none, none, none] [none] rfl rfl ?_
      exact wk_J0_equals_b55 C Rr N ih _ _ _ _ w
def wp_J0_equals_b48 (K : Int32 → Hp → Prop) (h : Hp) (l2 : Option Nat) (s0 : Option Nat) : Prop :=
  (∃ n, wp_J0_equals_b49 K n h l2 s0)
set_option maxHeartbeats 4000000 in
theorem wk_J0_equals_b48 {X : Fx} {K : Int32 → Hp → Prop} (C : Cx X cJ0_equals yJ0_equals.cls 7 8) (Rr : Rx X (Option.some Jvm.ClassFile.FieldType.boolean) (pI K)) (N : Nm X yJ0_equals.name) (h : Hp) (l2 : Option Nat) (s0 : Option Nat) (w : wp_J0_equals_b48 K h l2 s0) : Gd X h 48 [none, none, some (vR [2, 3] l2), none, none, none, none] [vR [11, 12, 13] s0] := by
  unfold wp_J0_equals_b48 at w
  refine g_astore_n 49 rfl C dJ0_equals_48 (by decide) (rfl : _ = [none, none, some (vR [2, 3] _), some (vR [11, 12, 13] _), none, none, none]) ?_
  refine g_sub [none, none, some none, some none, none, none, none] [] rfl rfl ?_
  obtain ⟨n9, w⟩ := w
  exact wk_J0_equals_b49 C Rr N n9 _ _ _ w
def wp_J0_equals_b43 (K : Int32 → Hp → Prop) (h : Hp) (l2 : Option Nat) (s0 : Option Nat) : Prop :=
  ((∃ a196, s0 = some a196 ∧ (kd h a196 = 8 ∧ (wp_J13_iterator h s0 (fun r199 h200 => Ex h h200 → (wp_J0_equals_b48 K h200 l2 r199))))) ∨ (∃ a203, s0 = some a203 ∧ (kd h a203 = 9 ∧ (wp_J22_iterator h s0 (fun r206 h207 => Ex h h207 → (wp_J0_equals_b48 K h207 l2 r206))))) ∨ (∃ a210, s0 = some a210 ∧ (kd h a210 = 10 ∧ (wp_J23_iterator h s0 (fun r213 h214 => Ex h h214 → (wp_J0_equals_b48 K h214 l2 r213))))))
set_option maxHeartbeats 4000000 in
theorem wk_J0_equals_b43 {X : Fx} {K : Int32 → Hp → Prop} (C : Cx X cJ0_equals yJ0_equals.cls 7 8) (Rr : Rx X (Option.some Jvm.ClassFile.FieldType.boolean) (pI K)) (N : Nm X yJ0_equals.name) (h : Hp) (l2 : Option Nat) (s0 : Option Nat) (w : wp_J0_equals_b43 K h l2 s0) : Gd X h 43 [none, none, some (vR [2, 3] l2), none, none, none, none] [vR [8, 9, 10] s0] := by
  unfold wp_J0_equals_b43 at w
  rcases w with w | w | w
  · obtain ⟨a196, e197, w⟩ := w
    obtain ⟨k198, w⟩ := w
    refine g_nar 0 [8] rfl e197 (by rw [k198]; decide) ?_
    refine g_callF (As := []) (T := [8]) (st := []) "java/util/HashMap$KeySet" 48 rfl C dJ0_equals_43 q1064 q702 q704 q27 q706 q669 q668 q705 q703 q701 okn_e2e68a (by decide) (by decide) (Nat.le_of_ble_eq_true rfl) e197 (fun _ => kC rfl k198) rfl (ct_J13_iterator C.glob w) (fun r0 h200 p201 x202 _ => ?_)
    obtain ⟨r199, rfl, w⟩ := p201
    have w := w x202
    change Gd _ _ _ _ (vR [11, 12, 13] r199 :: [])
    refine g_sub [none, none, some none, none, none, none, none] [none] rfl rfl ?_
    exact wk_J0_equals_b48 C Rr N _ _ _ w
  · obtain ⟨a203, e204, w⟩ := w
    obtain ⟨k205, w⟩ := w
    refine g_nar 0 [9] rfl e204 (by rw [k205]; decide) ?_
    refine g_callF (As := []) (T := [9]) (st := []) "java/util/HashMap$EntrySet" 48 rfl C dJ0_equals_43 q1064 q671 q673 q37 q675 q669 q668 q674 q672 q670 okn_e2e68a (by decide) (by decide) (Nat.le_of_ble_eq_true rfl) e204 (fun _ => kC rfl k205) rfl (ct_J22_iterator C.glob w) (fun r0 h207 p208 x209 _ => ?_)
    obtain ⟨r206, rfl, w⟩ := p208
    have w := w x209
    change Gd _ _ _ _ (vR [11, 12, 13] r206 :: [])
    refine g_sub [none, none, some none, none, none, none, none] [none] rfl rfl ?_
    exact wk_J0_equals_b48 C Rr N _ _ _ w
  · obtain ⟨a210, e211, w⟩ := w
    obtain ⟨k212, w⟩ := w
    refine g_nar 0 [10] rfl e211 (by rw [k212]; decide) ?_
    refine g_callF (As := []) (T := [10]) (st := []) "java/util/LinkedHashMap$LinkedEntrySet" 48 rfl C dJ0_equals_43 q1064 q720 q722 q38 q724 q669 q668 q723 q721 q719 okn_e2e68a (by decide) (by decide) (Nat.le_of_ble_eq_true rfl) e211 (fun _ => kC rfl k212) rfl (ct_J23_iterator C.glob w) (fun r0 h214 p215 x216 _ => ?_)
    obtain ⟨r213, rfl, w⟩ := p215
    have w := w x216
    change Gd _ _ _ _ (vR [11, 12, 13] r213 :: [])
    refine g_sub [none, none, some none, none, none, none, none] [none] rfl rfl ?_
    exact wk_J0_equals_b48 C Rr N _ _ _ w
def wp_J0_equals_b34 (K : Int32 → Hp → Prop) (h : Hp) (l0 : Option Nat) (l2 : Option Nat) (s0 : Int32) (s1 : Int32) : Prop :=
  ((s1 = s0 → ((∃ a173, l0 = some a173 ∧ (kd h a173 = 2 ∧ (wp_J1_entrySet h l0 (fun r176 h177 => Ex h h177 → (wp_J0_equals_b43 K h177 l2 r176))))) ∨ (∃ a180, l0 = some a180 ∧ (kd h a180 = 3 ∧ (wp_J2_entrySet h l0 (fun r183 h184 => Ex h h184 → (wp_J0_equals_b43 K h184 l2 r183))))))) ∧ (¬ s1 = s0 → (K 0 h)))
set_option maxHeartbeats 4000000 in
theorem wk_J0_equals_b34 {X : Fx} {K : Int32 → Hp → Prop} (C : Cx X cJ0_equals yJ0_equals.cls 7 8) (Rr : Rx X (Option.some Jvm.ClassFile.FieldType.boolean) (pI K)) (N : Nm X yJ0_equals.name) (h : Hp) (l0 : Option Nat) (l2 : Option Nat) (s0 : Int32) (s1 : Int32) (w : wp_J0_equals_b34 K h l0 l2 s0 s1) : Gd X h 34 [some (vR [2, 3] l0), none, some (vR [2, 3] l2), none, none, none, none] [vI s0, vI s1] := by
  unfold wp_J0_equals_b34 at w
  refine g_icmp_eq 37 39 rfl C dJ0_equals_34 rfl (fun u172 => ?_) (fun u172 => ?_)
  · have w := w.1 u172
    refine g_aload_n 40 rfl C dJ0_equals_39 rfl ?_
    rcases w with w | w
    · obtain ⟨a173, e174, w⟩ := w
      obtain ⟨k175, w⟩ := w
      refine g_callU (As := []) (T := [2, 3]) (st := []) "java/util/HashMap" 43 rfl C dJ0_equals_40 q1058 q1060 dcl_71bc85 q1061 q903 q11 q905 okn_4f1b6c (by decide) (by decide) (Nat.le_of_ble_eq_true rfl) e174 (fun _ => kC rfl k175) rfl (ct_J1_entrySet C.glob w) (fun r0 h177 p178 x179 _ => ?_)
      obtain ⟨r176, rfl, w⟩ := p178
      have w := w x179
      change Gd _ _ _ _ (vR [8, 9, 10] r176 :: [])
      refine g_sub [none, none, some none, none, none, none, none] [none] rfl rfl ?_
      exact wk_J0_equals_b43 C Rr N _ _ _ w
    · obtain ⟨a180, e181, w⟩ := w
      obtain ⟨k182, w⟩ := w
      refine g_nar 0 [3] rfl e181 (by rw [k182]; decide) ?_
      refine g_callU (As := []) (T := [3]) (st := []) "java/util/LinkedHashMap" 43 rfl C dJ0_equals_40 q1058 q1060 dcl_71bc85 q1062 q918 q12 q920 okn_4f1b6c (by decide) (by decide) (Nat.le_of_ble_eq_true rfl) e181 (fun _ => kC rfl k182) rfl (ct_J2_entrySet C.glob w) (fun r0 h184 p185 x186 _ => ?_)
      obtain ⟨r183, rfl, w⟩ := p185
      have w := w x186
      change Gd _ _ _ _ (vR [8, 9, 10] r183 :: [])
      refine g_sub [none, none, some none, none, none, none, none] [none] rfl rfl ?_
      exact wk_J0_equals_b43 C Rr N _ _ _ w
  · have w := w.2 u172
    refine g_iconst 38 rfl C dJ0_equals_37 0 rfl ?_
    exact g_zreturn C Rr dJ0_equals_38 (Or.inl rfl) ⟨_, rfl, w⟩
def wp_J0_equals_b30 (K : Int32 → Hp → Prop) (h : Hp) (l0 : Option Nat) (l2 : Option Nat) (s0 : Int32) : Prop :=
  (∃ a299, l0 = some a299 ∧ (wp_J1_size h l0 (fun r302 h303 => Ex h h303 → (wp_J0_equals_b34 K h303 l0 l2 r302 s0))))
set_option maxHeartbeats 4000000 in
theorem wk_J0_equals_b30 {X : Fx} {K : Int32 → Hp → Prop} (C : Cx X cJ0_equals yJ0_equals.cls 7 8) (Rr : Rx X (Option.some Jvm.ClassFile.FieldType.boolean) (pI K)) (N : Nm X yJ0_equals.name) (h : Hp) (l0 : Option Nat) (l2 : Option Nat) (s0 : Int32) (w : wp_J0_equals_b30 K h l0 l2 s0) : Gd X h 30 [some (vR [2, 3] l0), none, some (vR [2, 3] l2), none, none, none, none] [vI s0] := by
  unfold wp_J0_equals_b30 at w
  refine g_aload_n 31 rfl C dJ0_equals_30 rfl ?_
  obtain ⟨a299, e300, w⟩ := w
  refine g_known 0 rfl e300 (fun k301 => ?_)
  have k301 : kd _ _ ∈ [2, 3] := k301
  simp only [List.mem_cons, List.not_mem_nil, or_false] at k301
  rcases k301 with k301 | k301
  · refine g_callU (As := []) (T := [2, 3]) (st := [vI _]) "java/util/HashMap" 34 rfl C dJ0_equals_31 q1052 q1054 dcl_63696a q1055 q599 q11 q603 okn_d43be9 (by decide) (by decide) (Nat.le_of_ble_eq_true rfl) e300 (fun _ => kC rfl k301) rfl (ct_J1_size C.glob w) (fun r0 h303 p304 x305 _ => ?_)
    obtain ⟨r302, rfl, w⟩ := p304
    have w := w x305
    change Gd _ _ _ _ (vI r302 :: [vI _])
    refine g_sub [some none, none, some none, none, none, none, none] [none, none] rfl rfl ?_
    exact wk_J0_equals_b34 C Rr N _ _ _ _ _ w
  · refine g_callU (As := []) (T := [2, 3]) (st := [vI _]) "java/util/LinkedHashMap" 34 rfl C dJ0_equals_31 q1052 q1054 dcl_63696a q1056 q599 q11 q603 okn_d43be9 (by decide) (by decide) (Nat.le_of_ble_eq_true rfl) e300 (fun _ => kC rfl k301) rfl (ct_J1_size C.glob w) (fun r0 h303 p304 x305 _ => ?_)
    obtain ⟨r302, rfl, w⟩ := p304
    have w := w x305
    change Gd _ _ _ _ (vI r302 :: [vI _])
    refine g_sub [some none, none, some none, none, none, none, none] [none, none] rfl rfl ?_
    exact wk_J0_equals_b34 C Rr N _ _ _ _ _ w
def wp_J0_equals (h : Hp) (x0 : Option Nat) (x1 : Option Nat) (K : Int32 → Hp → Prop) : Prop :=
  ((¬ x1 = x0 → ((∀ a164, x1 = some a164 → kd h a164 ∈ [2, 3] → (wp_J1_size h x1 (fun r168 h169 => Ex h h169 → (wp_J0_equals_b30 K h169 x0 x1 r168)))) ∧ (x1 = none → (K 0 h)))) ∧ (x1 = x0 → (K 1 h)))
set_option maxHeartbeats 4000000 in
theorem wk_J0_equals {X : Fx} {K : Int32 → Hp → Prop} (C : Cx X cJ0_equals yJ0_equals.cls 7 8) (Rr : Rx X (Option.some Jvm.ClassFile.FieldType.boolean) (pI K)) (N : Nm X yJ0_equals.name) (h : Hp) (x0 : Option Nat) (x1 : Option Nat) (w : wp_J0_equals h x0 x1 K) : Gd X h 0 [some (vR [2, 3] x0), some (vR [2, 3] x1), none, none, none, none, none] [] := by
  unfold wp_J0_equals at w
  refine g_aload_n 1 rfl C dJ0_equals_0 rfl ?_
  refine g_aload_n 2 rfl C dJ0_equals_1 rfl ?_
  refine g_acmp_ne 5 7 rfl C dJ0_equals_2 rfl (fun u163 => ?_) (fun u163 => ?_)
  · have w := w.1 u163
    refine g_aload_n 8 rfl C dJ0_equals_7 rfl ?_
    refine g_inst [2, 3] [] 11 rfl C dJ0_equals_8 q1049 co_Map_2_3 cno_Map_ rfl (fun a164 u165 k166 => ?_) (fun _ _ k166 => by cases k166) (fun u165 => ?_)
    · have w := w.1 a164 u165 k166
      refine g_if_eq 14 22 rfl C dJ0_equals_11 rfl (fun q => absurd q (by decide)) (fun _ => ?_)
      refine g_aload_n 15 rfl C dJ0_equals_14 rfl ?_
      refine g_cast [2, 3] 18 rfl C dJ0_equals_15 q1049 co_Map_2_3 (fun _ _ q => q) ?_
      refine g_astore_n 19 rfl C dJ0_equals_18 (by decide) (rfl : _ = [some (vR [2, 3] _), some (vR [2, 3] _), some (vR [2, 3] _), none, none, none, none]) ?_
      refine g_goto 24 C dJ0_equals_19 rfl ?_
      refine g_aload_n 25 rfl C dJ0_equals_24 rfl ?_
      refine g_known 0 rfl u165 (fun k167 => ?_)
      have k167 : kd _ _ ∈ [2, 3] := k167
      simp only [List.mem_cons, List.not_mem_nil, or_false] at k167
      rcases k167 with k167 | k167
      · refine g_callF (As := []) (T := [2, 3]) (st := []) "java/util/HashMap" 30 rfl C dJ0_equals_25 q1051 q864 q599 q11 q603 q862 q861 q866 q865 q863 okn_b204ba (by decide) (by decide) (Nat.le_of_ble_eq_true rfl) u165 (fun _ => kC rfl k167) rfl (ct_J1_size C.glob w) (fun r0 h169 p170 x171 _ => ?_)
        obtain ⟨r168, rfl, w⟩ := p170
        have w := w x171
        change Gd _ _ _ _ (vI r168 :: [])
        refine g_sub [some none, none, some none, none, none, none, none] [none] rfl rfl ?_
        exact wk_J0_equals_b30 C Rr N _ _ _ _ w
      · refine g_callF (As := []) (T := [2, 3]) (st := []) "java/util/LinkedHashMap" 30 rfl C dJ0_equals_25 q1051 q868 q599 q11 q603 q862 q861 q866 q869 q867 okn_b204ba (by decide) (by decide) (Nat.le_of_ble_eq_true rfl) u165 (fun _ => kC rfl k167) rfl (ct_J1_size C.glob w) (fun r0 h169 p170 x171 _ => ?_)
        obtain ⟨r168, rfl, w⟩ := p170
        have w := w x171
        change Gd _ _ _ _ (vI r168 :: [])
        refine g_sub [some none, none, some none, none, none, none, none] [none] rfl rfl ?_
        exact wk_J0_equals_b30 C Rr N _ _ _ _ w
    · have w := w.2 u165
      refine g_if_eq 14 22 rfl C dJ0_equals_11 rfl (fun _ => ?_) (fun q => absurd q (by decide))
      refine g_iconst 23 rfl C dJ0_equals_22 0 rfl ?_
      exact g_zreturn C Rr dJ0_equals_23 (Or.inl rfl) ⟨_, rfl, w⟩
  · have w := w.2 u163
    refine g_iconst 6 rfl C dJ0_equals_5 1 rfl ?_
    exact g_zreturn C Rr dJ0_equals_6 (Or.inr rfl) ⟨_, rfl, w⟩
theorem ct_J0_equals {E : Gx} (GE : Glob E) {h : Hp} {x0 : Option Nat} {x1 : Option Nat} {K : Int32 → Hp → Prop} (w : wp_J0_equals h x0 x1 K) : CtW E yJ0_equals cJ0_equals 7 (Option.some Jvm.ClassFile.FieldType.boolean) [((39 : Nat), (115 : Nat), (140 : Nat), (86 : Nat)), ((39 : Nat), (115 : Nat), (140 : Nat), (88 : Nat)), ((116 : Nat), (133 : Nat), (140 : Nat), (86 : Nat)), ((116 : Nat), (133 : Nat), (140 : Nat), (88 : Nat)), ((134 : Nat), (137 : Nat), (140 : Nat), (86 : Nat)), ((134 : Nat), (137 : Nat), (140 : Nat), (88 : Nat))] 8 [vR [2, 3] x0, vR [2, 3] x1] h (pI K) :=
  CtW.of GE (by decide +kernel) (by simp [lvA, t2]) rfl (fun X hX C Rr N => wk_J0_equals C Rr N h x0 x1 w)
def wp_X0_same_b22 (K : Int32 → Hp → Prop) (h : Hp)  : Prop :=
  (K 0 h)
set_option maxHeartbeats 4000000 in
theorem wk_X0_same_b22 {X : Fx} {K : Int32 → Hp → Prop} (C : Cx X cX0_same yX0_same.cls 5 9) (Rr : Rx X (Option.some Jvm.ClassFile.FieldType.boolean) (pI K)) (N : Nm X yX0_same.name) (h : Hp)  (w : wp_X0_same_b22 K h ) : Gd X h 22 [none, none, none, none, none] [] := by
  unfold wp_X0_same_b22 at w
  refine g_iconst 23 rfl C dX0_same_22 0 rfl ?_
  exact g_zreturn C Rr dX0_same_23 (Or.inl rfl) ⟨_, rfl, w⟩
def wp_X0_same_b48 (K : Int32 → Hp → Prop) (h : Hp) (s0 : Int32) : Prop :=
  ((s0 = 0 ∨ s0 = 1) ∧ K s0 h)
set_option maxHeartbeats 4000000 in
theorem wk_X0_same_b48 {X : Fx} {K : Int32 → Hp → Prop} (C : Cx X cX0_same yX0_same.cls 5 9) (Rr : Rx X (Option.some Jvm.ClassFile.FieldType.boolean) (pI K)) (N : Nm X yX0_same.name) (h : Hp) (s0 : Int32) (w : wp_X0_same_b48 K h s0) : Gd X h 48 [none, none, none, none, none] [vI s0] := by
  unfold wp_X0_same_b48 at w
  exact g_zreturn C Rr dX0_same_48 w.1 ⟨_, rfl, w.2⟩
def wp_X0_same_b39 (K : Int32 → Hp → Prop) (h : Hp) (s0 : Int32) : Prop :=
  (wp_X0_same_b48 K h s0)
set_option maxHeartbeats 4000000 in
theorem wk_X0_same_b39 {X : Fx} {K : Int32 → Hp → Prop} (C : Cx X cX0_same yX0_same.cls 5 9) (Rr : Rx X (Option.some Jvm.ClassFile.FieldType.boolean) (pI K)) (N : Nm X yX0_same.name) (h : Hp) (s0 : Int32) (w : wp_X0_same_b39 K h s0) : Gd X h 39 [none, none, none, none, none] [vI s0] := by
  unfold wp_X0_same_b39 at w
  refine g_goto 48 C dX0_same_39 rfl ?_
  refine g_sub [none, none, none, none, none] [none] rfl rfl ?_
  exact wk_X0_same_b48 C Rr N _ _ w
def wp_X0_same (h : Hp) (x0 : Option Nat) (x1 : Int32) (x2 : Int32) (K : Int32 → Hp → Prop) : Prop :=
  (∃ a36, x0 = some a36 ∧ (wp_X0_map h x0 x1 (fun r39 h40 => Ex h h40 → (wp_X0_map h40 x0 x2 (fun r44 h45 => Ex h40 h45 → ((r39 = none → (wp_X0_same_b22 K h45)) ∧ (∀ a49, r39 = some a49 → ((r44 = none → (wp_X0_same_b22 K h45)) ∧ (∀ a51, r44 = some a51 → ((¬ r44 = (rf h45 26 a36) → (wp_J0_equals h45 r39 r44 (fun r54 h55 => Ex h45 h55 → (wp_X0_same_b48 K h55 r54)))) ∧ (r44 = (rf h45 26 a36) → (wp_J0_equals h45 r44 r39 (fun r59 h60 => Ex h45 h60 → (wp_X0_same_b39 K h60 r59))))))))))))))
set_option maxHeartbeats 4000000 in
theorem wk_X0_same {X : Fx} {K : Int32 → Hp → Prop} (C : Cx X cX0_same yX0_same.cls 5 9) (Rr : Rx X (Option.some Jvm.ClassFile.FieldType.boolean) (pI K)) (N : Nm X yX0_same.name) (h : Hp) (x0 : Option Nat) (x1 : Int32) (x2 : Int32) (w : wp_X0_same h x0 x1 x2 K) : Gd X h 0 [some (vR [1] x0), some (vI x1), some (vI x2), none, none] [] := by
  unfold wp_X0_same at w
  refine g_aload_n 1 rfl C dX0_same_0 rfl ?_
  refine g_iload_n 2 rfl C dX0_same_1 rfl ?_
  obtain ⟨a36, e37, w⟩ := w
  refine g_callV (As := [vI _]) (T := [1]) (st := []) "HashHall" 5 rfl C dX0_same_2 q158 q160 qs0 q9 q161 rfl okn_a136fc (by decide) (by decide) (Nat.le_of_ble_eq_true rfl) e37 (fun q => tC rfl q) rfl (ct_X0_map C.glob w) (fun r0 h40 p41 x42 _ => ?_)
  obtain ⟨r39, rfl, w⟩ := p41
  have w := w x42
  change Gd _ _ _ _ (vR [2, 3] r39 :: [])
  refine g_astore_n 6 rfl C dX0_same_5 (by decide) (rfl : _ = [some (vR [1] _), some (vI _), some (vI _), some (vR [2, 3] _), none]) ?_
  refine g_aload_n 7 rfl C dX0_same_6 rfl ?_
  refine g_iload_n 8 rfl C dX0_same_7 rfl ?_
  refine g_callV (As := [vI _]) (T := [1]) (st := []) "HashHall" 11 rfl C dX0_same_8 q158 q160 qs0 q9 q161 rfl okn_a136fc (by decide) (by decide) (Nat.le_of_ble_eq_true rfl) e37 (fun q => tC rfl q) rfl (ct_X0_map C.glob w) (fun r0 h45 p46 x47 _ => ?_)
  obtain ⟨r44, rfl, w⟩ := p46
  have w := w x47
  change Gd _ _ _ _ (vR [2, 3] r44 :: [])
  refine g_astore 13 rfl C dX0_same_11 (by decide) (rfl : _ = [some (vR [1] _), some (vI _), some (vI _), some (vR [2, 3] _), some (vR [2, 3] _)]) ?_
  refine g_aload_n 14 rfl C dX0_same_13 rfl ?_
  refine g_ifnull 17 22 rfl C dX0_same_14 rfl (fun u48 => ?_) (fun a49 u48 => ?_)
  · have w := w.1 u48
    refine g_sub [none, none, none, none, none] [] rfl rfl ?_
    exact wk_X0_same_b22 C Rr N _ w
  · have w := w.2 a49 u48
    refine g_aload 19 rfl C dX0_same_17 rfl ?_
    refine g_ifnonnull 22 24 rfl C dX0_same_19 rfl (fun a51 u50 => ?_) (fun u50 => ?_)
    · have w := w.2 a51 u50
      refine g_aload 26 rfl C dX0_same_24 rfl ?_
      refine g_aload_n 27 rfl C dX0_same_26 rfl ?_
      refine g_getR 30 rfl C dX0_same_27 fl_HashHall_27 rfl e37 rfl ?_
      refine g_acmp_ne 33 42 rfl C dX0_same_30 rfl (fun u52 => ?_) (fun u52 => ?_)
      · have w := w.1 u52
        refine g_aload_n 43 rfl C dX0_same_42 rfl ?_
        refine g_aload 45 rfl C dX0_same_43 rfl ?_
        refine g_known 1 rfl u48 (fun k53 => ?_)
        have k53 : kd _ _ ∈ [2, 3] := k53
        simp only [List.mem_cons, List.not_mem_nil, or_false] at k53
        rcases k53 with k53 | k53
        · refine g_callUW (As := [vR [2, 3] _]) (T := [2, 3]) (st := []) "java/util/HashMap" 48 rfl C dX0_same_45 q1042 q1043 dcl_96e05f q1045 q1047 q10 q1048 okn_f03d93 (by decide) (by decide) (Nat.le_of_ble_eq_true rfl) u48 (fun _ => kC rfl k53) rfl (ct_J0_equals C.glob w) (fun r0 h55 p56 x57 _ => ?_)
          obtain ⟨r54, rfl, w⟩ := p56
          have w := w x57
          change Gd _ _ _ _ (vI r54 :: [])
          refine g_sub [none, none, none, none, none] [none] rfl rfl ?_
          exact wk_X0_same_b48 C Rr N _ _ w
        · refine g_callUW (As := [vR [2, 3] _]) (T := [2, 3]) (st := []) "java/util/LinkedHashMap" 48 rfl C dX0_same_45 q1042 q1043 dcl_96e05f q1046 q1047 q10 q1048 okn_f03d93 (by decide) (by decide) (Nat.le_of_ble_eq_true rfl) u48 (fun _ => kC rfl k53) rfl (ct_J0_equals C.glob w) (fun r0 h55 p56 x57 _ => ?_)
          obtain ⟨r54, rfl, w⟩ := p56
          have w := w x57
          change Gd _ _ _ _ (vI r54 :: [])
          refine g_sub [none, none, none, none, none] [none] rfl rfl ?_
          exact wk_X0_same_b48 C Rr N _ _ w
      · have w := w.2 u52
        refine g_aload 35 rfl C dX0_same_33 rfl ?_
        refine g_aload_n 36 rfl C dX0_same_35 rfl ?_
        refine g_known 1 rfl u50 (fun k58 => ?_)
        have k58 : kd _ _ ∈ [2, 3] := k58
        simp only [List.mem_cons, List.not_mem_nil, or_false] at k58
        rcases k58 with k58 | k58
        · refine g_callUW (As := [vR [2, 3] _]) (T := [2, 3]) (st := []) "java/util/HashMap" 39 rfl C dX0_same_36 q1042 q1043 dcl_96e05f q1045 q1047 q10 q1048 okn_f03d93 (by decide) (by decide) (Nat.le_of_ble_eq_true rfl) u50 (fun _ => kC rfl k58) rfl (ct_J0_equals C.glob w) (fun r0 h60 p61 x62 _ => ?_)
          obtain ⟨r59, rfl, w⟩ := p61
          have w := w x62
          change Gd _ _ _ _ (vI r59 :: [])
          refine g_sub [none, none, none, none, none] [none] rfl rfl ?_
          exact wk_X0_same_b39 C Rr N _ _ w
        · refine g_callUW (As := [vR [2, 3] _]) (T := [2, 3]) (st := []) "java/util/LinkedHashMap" 39 rfl C dX0_same_36 q1042 q1043 dcl_96e05f q1046 q1047 q10 q1048 okn_f03d93 (by decide) (by decide) (Nat.le_of_ble_eq_true rfl) u50 (fun _ => kC rfl k58) rfl (ct_J0_equals C.glob w) (fun r0 h60 p61 x62 _ => ?_)
          obtain ⟨r59, rfl, w⟩ := p61
          have w := w x62
          change Gd _ _ _ _ (vI r59 :: [])
          refine g_sub [none, none, none, none, none] [none] rfl rfl ?_
          exact wk_X0_same_b39 C Rr N _ _ w
    · have w := w.1 u50
      refine g_sub [none, none, none, none, none] [] rfl rfl ?_
      exact wk_X0_same_b22 C Rr N _ w
theorem ct_X0_same {E : Gx} (GE : Glob E) {h : Hp} {x0 : Option Nat} {x1 : Int32} {x2 : Int32} {K : Int32 → Hp → Prop} (w : wp_X0_same h x0 x1 x2 K) : Ct E yX0_same cX0_same 5 (Option.some Jvm.ClassFile.FieldType.boolean) 9 [vR [1] x0, vI x1, vI x2] h (pI K) :=
  Ct.of GE (by decide +kernel) (by simp [lvA, t2]) rfl (fun X hX C Rr N => wk_X0_same C Rr N h x0 x1 x2 w)
