/-! WALKS (printed by emit.py): J1_putMapEntries J1_putAll X0_pour -/
set_option maxRecDepth 100000
def wp_J1_putMapEntries_b165 (G110 : Hp → Option Nat → Int32 → Option Nat → Prop) (K : Hp → Prop) (h : Hp) (l0 : Option Nat) (l2 : Int32) (l4 : Option Nat) (s0 : Option Nat) : Prop :=
  (G110 h l0 l2 l4)
set_option maxHeartbeats 4000000 in
theorem wk_J1_putMapEntries_b165 {X : Fx} {K : Hp → Prop} (C : Cx X cJ1_putMapEntries yJ1_putMapEntries.cls 8 25) (Rr : Rx X (Option.none : Option Jvm.ClassFile.FieldType) (pV K)) (N : Nm X yJ1_putMapEntries.name) {G110 : Hp → Option Nat → Int32 → Option Nat → Prop} (k110 : ∀ (h : Hp) (l0 : Option Nat) (l2 : Int32) (l4 : Option Nat), G110 h l0 l2 l4 → Gd X h 110 [some (vR [2, 3] l0), none, some (vI l2), none, some (vR [11, 12, 13] l4), none, none, none] []) (h : Hp) (l0 : Option Nat) (l2 : Int32) (l4 : Option Nat) (s0 : Option Nat) (w : wp_J1_putMapEntries_b165 G110 K h l0 l2 l4 s0) : Gd X h 165 [some (vR [2, 3] l0), none, some (vI l2), none, some (vR [11, 12, 13] l4), none, none, none] [vR [4, 60] s0] := by
  unfold wp_J1_putMapEntries_b165 at w
  refine g_pop 166 rfl C dJ1_putMapEntries_165 rfl ?_
  refine g_goto 110 C dJ1_putMapEntries_166 rfl ?_
  refine g_sub [some none, none, some none, none, some none, none, none, none] [] rfl rfl ?_
  exact k110 _ _ _ _ w
def wp_J1_putMapEntries_b148 (G110 : Hp → Option Nat → Int32 → Option Nat → Prop) (K : Hp → Prop) (h : Hp) (l0 : Option Nat) (l2 : Int32) (l4 : Option Nat) (l6 : Option Nat) (s0 : Option Nat) : Prop :=
  (wp_J1_hash h l6 (fun r246 h247 => Ex h h247 → (∃ a250, l0 = some a250 ∧ (wp_J1_putVal h247 l0 r246 l6 s0 0 l2 (fun r253 h254 => Ex h247 h254 → (wp_J1_putMapEntries_b165 G110 K h254 l0 l2 l4 r253))))))
set_option maxHeartbeats 4000000 in
theorem wk_J1_putMapEntries_b148 {X : Fx} {K : Hp → Prop} (C : Cx X cJ1_putMapEntries yJ1_putMapEntries.cls 8 25) (Rr : Rx X (Option.none : Option Jvm.ClassFile.FieldType) (pV K)) (N : Nm X yJ1_putMapEntries.name) {G110 : Hp → Option Nat → Int32 → Option Nat → Prop} (k110 : ∀ (h : Hp) (l0 : Option Nat) (l2 : Int32) (l4 : Option Nat), G110 h l0 l2 l4 → Gd X h 110 [some (vR [2, 3] l0), none, some (vI l2), none, some (vR [11, 12, 13] l4), none, none, none] []) (h : Hp) (l0 : Option Nat) (l2 : Int32) (l4 : Option Nat) (l6 : Option Nat) (s0 : Option Nat) (w : wp_J1_putMapEntries_b148 G110 K h l0 l2 l4 l6 s0) : Gd X h 148 [some (vR [2, 3] l0), none, some (vI l2), none, some (vR [11, 12, 13] l4), none, some (vR [4, 60] l6), none] [vR [4, 60] s0] := by
  unfold wp_J1_putMapEntries_b148 at w
  refine g_astore 150 rfl C dJ1_putMapEntries_148 (by decide) (rfl : _ = [some (vR [2, 3] _), none, some (vI _), none, some (vR [11, 12, 13] _), none, some (vR [4, 60] _), some (vR [4, 60] _)]) ?_
  refine g_aload_n 151 rfl C dJ1_putMapEntries_150 rfl ?_
  refine g_aload 153 rfl C dJ1_putMapEntries_151 rfl ?_
  refine g_callS (As := [vR [4, 60] _]) (st := [vR [2, 3] _]) 156 rfl C dJ1_putMapEntries_153 q189 q190 q11 q191 okn_b794a0 (by decide) (by decide) (Nat.le_of_ble_eq_true rfl) rfl (ct_J1_hash C.glob w) (fun r0 h247 p248 x249 _ => ?_)
  obtain ⟨r246, rfl, w⟩ := p248
  have w := w x249
  change Gd _ _ _ _ (vI r246 :: [vR [2, 3] _])
  refine g_aload 158 rfl C dJ1_putMapEntries_156 rfl ?_
  refine g_aload 160 rfl C dJ1_putMapEntries_158 rfl ?_
  refine g_iconst 161 rfl C dJ1_putMapEntries_160 0 rfl ?_
  refine g_iload_n 162 rfl C dJ1_putMapEntries_161 rfl ?_
  obtain ⟨a250, e251, w⟩ := w
  refine g_known 5 rfl e251 (fun k252 => ?_)
  have k252 : kd _ _ ∈ [2, 3] := k252
  simp only [List.mem_cons, List.not_mem_nil, or_false] at k252
  rcases k252 with k252 | k252
  · refine g_callU (As := [vI _, vR [4, 60] _, vR [4, 60] _, vI _, vI _]) (T := [2, 3]) (st := []) "java/util/HashMap" 165 rfl C dJ1_putMapEntries_162 q206 q209 dcl_3cfaa8 q208 q207 q11 q211 okn_5fdd77 (by decide) (by decide) (Nat.le_of_ble_eq_true rfl) e251 (fun _ => kC rfl k252) rfl (ct_J1_putVal C.glob w) (fun r0 h254 p255 x256 _ => ?_)
    obtain ⟨r253, rfl, w⟩ := p255
    have w := w x256
    change Gd _ _ _ _ (vR [4, 60] r253 :: [])
    refine g_sub [some none, none, some none, none, some none, none, none, none] [none] rfl rfl ?_
    exact wk_J1_putMapEntries_b165 C Rr N k110 _ _ _ _ _ w
  · refine g_callU (As := [vI _, vR [4, 60] _, vR [4, 60] _, vI _, vI _]) (T := [2, 3]) (st := []) "java/util/LinkedHashMap" 165 rfl C dJ1_putMapEntries_162 q206 q209 dcl_3cfaa8 q210 q207 q11 q211 okn_5fdd77 (by decide) (by decide) (Nat.le_of_ble_eq_true rfl) e251 (fun _ => kC rfl k252) rfl (ct_J1_putVal C.glob w) (fun r0 h254 p255 x256 _ => ?_)
    obtain ⟨r253, rfl, w⟩ := p255
    have w := w x256
    change Gd _ _ _ _ (vR [4, 60] r253 :: [])
    refine g_sub [some none, none, some none, none, some none, none, none, none] [none] rfl rfl ?_
    exact wk_J1_putMapEntries_b165 C Rr N k110 _ _ _ _ _ w
def wp_J1_putMapEntries_b139 (G110 : Hp → Option Nat → Int32 → Option Nat → Prop) (K : Hp → Prop) (h : Hp) (l0 : Option Nat) (l2 : Int32) (l4 : Option Nat) (l5 : Option Nat) (s0 : Option Nat) : Prop :=
  (∃ a215, l5 = some a215 ∧ (wp_J6_getValue h l5 (fun r218 h219 => Ex h h219 → (wp_J1_putMapEntries_b148 G110 K h219 l0 l2 l4 s0 r218))))
set_option maxHeartbeats 4000000 in
theorem wk_J1_putMapEntries_b139 {X : Fx} {K : Hp → Prop} (C : Cx X cJ1_putMapEntries yJ1_putMapEntries.cls 8 25) (Rr : Rx X (Option.none : Option Jvm.ClassFile.FieldType) (pV K)) (N : Nm X yJ1_putMapEntries.name) {G110 : Hp → Option Nat → Int32 → Option Nat → Prop} (k110 : ∀ (h : Hp) (l0 : Option Nat) (l2 : Int32) (l4 : Option Nat), G110 h l0 l2 l4 → Gd X h 110 [some (vR [2, 3] l0), none, some (vI l2), none, some (vR [11, 12, 13] l4), none, none, none] []) (h : Hp) (l0 : Option Nat) (l2 : Int32) (l4 : Option Nat) (l5 : Option Nat) (s0 : Option Nat) (w : wp_J1_putMapEntries_b139 G110 K h l0 l2 l4 l5 s0) : Gd X h 139 [some (vR [2, 3] l0), none, some (vI l2), none, some (vR [11, 12, 13] l4), some (vR [5, 6, 7] l5), none, none] [vR [4, 60] s0] := by
  unfold wp_J1_putMapEntries_b139 at w
  refine g_astore 141 rfl C dJ1_putMapEntries_139 (by decide) (rfl : _ = [some (vR [2, 3] _), none, some (vI _), none, some (vR [11, 12, 13] _), some (vR [5, 6, 7] _), some (vR [4, 60] _), none]) ?_
  refine g_aload 143 rfl C dJ1_putMapEntries_141 rfl ?_
  obtain ⟨a215, e216, w⟩ := w
  refine g_known 0 rfl e216 (fun k217 => ?_)
  have k217 : kd _ _ ∈ [5, 6, 7] := k217
  simp only [List.mem_cons, List.not_mem_nil, or_false] at k217
  rcases k217 with k217 | k217 | k217
  · refine g_callF (As := []) (T := [5, 6, 7]) (st := []) "java/util/HashMap$Node" 148 rfl C dJ1_putMapEntries_143 q960 q963 q965 q19 q967 q962 q961 q966 q964 q949 okn_b350bc (by decide) (by decide) (Nat.le_of_ble_eq_true rfl) e216 (fun _ => kC rfl k217) rfl (ct_J6_getValue C.glob w) (fun r0 h219 p220 x221 _ => ?_)
    obtain ⟨r218, rfl, w⟩ := p220
    have w := w x221
    change Gd _ _ _ _ (vR [4, 60] r218 :: [])
    refine g_sub [some none, none, some none, none, some none, none, some none, none] [none] rfl rfl ?_
    exact wk_J1_putMapEntries_b148 C Rr N k110 _ _ _ _ _ _ w
  · refine g_callF (As := []) (T := [5, 6, 7]) (st := []) "java/util/LinkedHashMap$Entry" 148 rfl C dJ1_putMapEntries_143 q960 q970 q965 q19 q967 q962 q961 q966 q971 q956 okn_b350bc (by decide) (by decide) (Nat.le_of_ble_eq_true rfl) e216 (fun _ => kC rfl k217) rfl (ct_J6_getValue C.glob w) (fun r0 h219 p220 x221 _ => ?_)
    obtain ⟨r218, rfl, w⟩ := p220
    have w := w x221
    change Gd _ _ _ _ (vR [4, 60] r218 :: [])
    refine g_sub [some none, none, some none, none, some none, none, some none, none] [none] rfl rfl ?_
    exact wk_J1_putMapEntries_b148 C Rr N k110 _ _ _ _ _ _ w
  · refine g_callF (As := []) (T := [5, 6, 7]) (st := []) "java/util/HashMap$TreeNode" 148 rfl C dJ1_putMapEntries_143 q960 q968 q965 q19 q967 q962 q961 q966 q969 q953 okn_b350bc (by decide) (by decide) (Nat.le_of_ble_eq_true rfl) e216 (fun _ => kC rfl k217) rfl (ct_J6_getValue C.glob w) (fun r0 h219 p220 x221 _ => ?_)
    obtain ⟨r218, rfl, w⟩ := p220
    have w := w x221
    change Gd _ _ _ _ (vR [4, 60] r218 :: [])
    refine g_sub [some none, none, some none, none, some none, none, some none, none] [none] rfl rfl ?_
    exact wk_J1_putMapEntries_b148 C Rr N k110 _ _ _ _ _ _ w
def wp_J1_putMapEntries_b127 (G110 : Hp → Option Nat → Int32 → Option Nat → Prop) (K : Hp → Prop) (h : Hp) (l0 : Option Nat) (l2 : Int32) (l4 : Option Nat) (s0 : Option Nat) : Prop :=
  ((∀ a, s0 = some a → kd h a ∈ [5, 6, 7]) ∧ (∃ a280, s0 = some a280 ∧ (wp_J6_getKey h s0 (fun r283 h284 => Ex h h284 → (wp_J1_putMapEntries_b139 G110 K h284 l0 l2 l4 s0 r283)))))
set_option maxHeartbeats 4000000 in
theorem wk_J1_putMapEntries_b127 {X : Fx} {K : Hp → Prop} (C : Cx X cJ1_putMapEntries yJ1_putMapEntries.cls 8 25) (Rr : Rx X (Option.none : Option Jvm.ClassFile.FieldType) (pV K)) (N : Nm X yJ1_putMapEntries.name) {G110 : Hp → Option Nat → Int32 → Option Nat → Prop} (k110 : ∀ (h : Hp) (l0 : Option Nat) (l2 : Int32) (l4 : Option Nat), G110 h l0 l2 l4 → Gd X h 110 [some (vR [2, 3] l0), none, some (vI l2), none, some (vR [11, 12, 13] l4), none, none, none] []) (h : Hp) (l0 : Option Nat) (l2 : Int32) (l4 : Option Nat) (s0 : Option Nat) (w : wp_J1_putMapEntries_b127 G110 K h l0 l2 l4 s0) : Gd X h 127 [some (vR [2, 3] l0), none, some (vI l2), none, some (vR [11, 12, 13] l4), none, none, none] [vR [4, 5, 6, 7, 60] s0] := by
  unfold wp_J1_putMapEntries_b127 at w
  obtain ⟨k279, w⟩ := w
  refine g_cast [5, 6, 7] 130 rfl C dJ1_putMapEntries_127 q944 co_Map_Entry_5_6_7 (fun a q _ => k279 a q) ?_
  refine g_astore 132 rfl C dJ1_putMapEntries_130 (by decide) (rfl : _ = [some (vR [2, 3] _), none, some (vI _), none, some (vR [11, 12, 13] _), some (vR [5, 6, 7] _), none, none]) ?_
  refine g_aload 134 rfl C dJ1_putMapEntries_132 rfl ?_
  obtain ⟨a280, e281, w⟩ := w
  refine g_known 0 rfl e281 (fun k282 => ?_)
  have k282 : kd _ _ ∈ [5, 6, 7] := k282
  simp only [List.mem_cons, List.not_mem_nil, or_false] at k282
  rcases k282 with k282 | k282 | k282
  · refine g_callF (As := []) (T := [5, 6, 7]) (st := []) "java/util/HashMap$Node" 139 rfl C dJ1_putMapEntries_134 q946 q950 q845 q19 q846 q948 q947 q952 q951 q949 okn_e82fcc (by decide) (by decide) (Nat.le_of_ble_eq_true rfl) e281 (fun _ => kC rfl k282) rfl (ct_J6_getKey C.glob w) (fun r0 h284 p285 x286 _ => ?_)
    obtain ⟨r283, rfl, w⟩ := p285
    have w := w x286
    change Gd _ _ _ _ (vR [4, 60] r283 :: [])
    refine g_sub [some none, none, some none, none, some none, some none, none, none] [none] rfl rfl ?_
    exact wk_J1_putMapEntries_b139 C Rr N k110 _ _ _ _ _ _ w
  · refine g_callF (As := []) (T := [5, 6, 7]) (st := []) "java/util/LinkedHashMap$Entry" 139 rfl C dJ1_putMapEntries_134 q946 q957 q845 q19 q846 q948 q947 q952 q958 q956 okn_e82fcc (by decide) (by decide) (Nat.le_of_ble_eq_true rfl) e281 (fun _ => kC rfl k282) rfl (ct_J6_getKey C.glob w) (fun r0 h284 p285 x286 _ => ?_)
    obtain ⟨r283, rfl, w⟩ := p285
    have w := w x286
    change Gd _ _ _ _ (vR [4, 60] r283 :: [])
    refine g_sub [some none, none, some none, none, some none, some none, none, none] [none] rfl rfl ?_
    exact wk_J1_putMapEntries_b139 C Rr N k110 _ _ _ _ _ _ w
  · refine g_callF (As := []) (T := [5, 6, 7]) (st := []) "java/util/HashMap$TreeNode" 139 rfl C dJ1_putMapEntries_134 q946 q954 q845 q19 q846 q948 q947 q952 q955 q953 okn_e82fcc (by decide) (by decide) (Nat.le_of_ble_eq_true rfl) e281 (fun _ => kC rfl k282) rfl (ct_J6_getKey C.glob w) (fun r0 h284 p285 x286 _ => ?_)
    obtain ⟨r283, rfl, w⟩ := p285
    have w := w x286
    change Gd _ _ _ _ (vR [4, 60] r283 :: [])
    refine g_sub [some none, none, some none, none, some none, some none, none, none] [none] rfl rfl ?_
    exact wk_J1_putMapEntries_b139 C Rr N k110 _ _ _ _ _ _ w
def wp_J1_putMapEntries_b169 (K : Hp → Prop) (h : Hp)  : Prop :=
  (K h)
set_option maxHeartbeats 4000000 in
theorem wk_J1_putMapEntries_b169 {X : Fx} {K : Hp → Prop} (C : Cx X cJ1_putMapEntries yJ1_putMapEntries.cls 8 25) (Rr : Rx X (Option.none : Option Jvm.ClassFile.FieldType) (pV K)) (N : Nm X yJ1_putMapEntries.name) (h : Hp)  (w : wp_J1_putMapEntries_b169 K h ) : Gd X h 169 [none, none, none, none, none, none, none, none] [] := by
  unfold wp_J1_putMapEntries_b169 at w
  exact g_vreturn C Rr dJ1_putMapEntries_169 ⟨rfl, w⟩
def wp_J1_putMapEntries_b117 (G110 : Hp → Option Nat → Int32 → Option Nat → Prop) (K : Hp → Prop) (h : Hp) (l0 : Option Nat) (l2 : Int32) (l4 : Option Nat) (s0 : Int32) : Prop :=
  ((s0 = 0 → (wp_J1_putMapEntries_b169 K h)) ∧ (¬ s0 = 0 → ((∃ a258, l4 = some a258 ∧ (kd h a258 = 11 ∧ (wp_J17_next h l4 (fun r261 h262 => Ex h h262 → (wp_J1_putMapEntries_b127 G110 K h262 l0 l2 l4 r261))))) ∨ (∃ a265, l4 = some a265 ∧ (kd h a265 = 12 ∧ (wp_J16_next h l4 (fun r268 h269 => Ex h h269 → (wp_J1_putMapEntries_b127 G110 K h269 l0 l2 l4 r268))))) ∨ (∃ a272, l4 = some a272 ∧ (kd h a272 = 13 ∧ (wp_J19_next h l4 (fun r275 h276 => Ex h h276 → (wp_J1_putMapEntries_b127 G110 K h276 l0 l2 l4 r275))))))))
set_option maxHeartbeats 4000000 in
theorem wk_J1_putMapEntries_b117 {X : Fx} {K : Hp → Prop} (C : Cx X cJ1_putMapEntries yJ1_putMapEntries.cls 8 25) (Rr : Rx X (Option.none : Option Jvm.ClassFile.FieldType) (pV K)) (N : Nm X yJ1_putMapEntries.name) {G110 : Hp → Option Nat → Int32 → Option Nat → Prop} (k110 : ∀ (h : Hp) (l0 : Option Nat) (l2 : Int32) (l4 : Option Nat), G110 h l0 l2 l4 → Gd X h 110 [some (vR [2, 3] l0), none, some (vI l2), none, some (vR [11, 12, 13] l4), none, none, none] []) (h : Hp) (l0 : Option Nat) (l2 : Int32) (l4 : Option Nat) (s0 : Int32) (w : wp_J1_putMapEntries_b117 G110 K h l0 l2 l4 s0) : Gd X h 117 [some (vR [2, 3] l0), none, some (vI l2), none, some (vR [11, 12, 13] l4), none, none, none] [vI s0] := by
  unfold wp_J1_putMapEntries_b117 at w
  refine g_if_eq 120 169 rfl C dJ1_putMapEntries_117 rfl (fun u257 => ?_) (fun u257 => ?_)
  · have w := w.1 u257
    refine g_sub [none, none, none, none, none, none, none, none] [] rfl rfl ?_
    exact wk_J1_putMapEntries_b169 C Rr N _ w
  · have w := w.2 u257
    refine g_aload 122 rfl C dJ1_putMapEntries_120 rfl ?_
    rcases w with w | w | w
    · obtain ⟨a258, e259, w⟩ := w
      obtain ⟨k260, w⟩ := w
      refine g_nar 0 [11] rfl e259 (by rw [k260]; decide) ?_
      refine g_callF (As := []) (T := [11]) (st := []) "java/util/HashMap$KeyIterator" 127 rfl C dJ1_putMapEntries_122 q943 q809 q811 q31 q813 q793 q792 q812 q810 q778 okn_a0cf24 (by decide) (by decide) (Nat.le_of_ble_eq_true rfl) e259 (fun _ => kC rfl k260) rfl (ct_J17_next C.glob w) (fun r0 h262 p263 x264 _ => ?_)
      obtain ⟨r261, rfl, w⟩ := p263
      have w := w x264
      change Gd _ _ _ _ (vR [4, 60] r261 :: [])
      refine g_sub [some none, none, some none, none, some none, none, none, none] [some [4, 5, 6, 7, 60]] rfl rfl ?_
      exact wk_J1_putMapEntries_b127 C Rr N k110 _ _ _ _ _ w
    · obtain ⟨a265, e266, w⟩ := w
      obtain ⟨k267, w⟩ := w
      refine g_nar 0 [12] rfl e266 (by rw [k267]; decide) ?_
      refine g_callF (As := []) (T := [12]) (st := []) "java/util/HashMap$EntryIterator" 127 rfl C dJ1_putMapEntries_122 q943 q794 q796 q30 q798 q793 q792 q797 q795 q772 okn_a0cf24 (by decide) (by decide) (Nat.le_of_ble_eq_true rfl) e266 (fun _ => kC rfl k267) rfl (ct_J16_next C.glob w) (fun r0 h269 p270 x271 _ => ?_)
      obtain ⟨r268, rfl, w⟩ := p270
      have w := w x271
      change Gd _ _ _ _ (vR [5, 6, 7] r268 :: [])
      refine g_sub [some none, none, some none, none, some none, none, none, none] [some [4, 5, 6, 7, 60]] rfl rfl ?_
      exact wk_J1_putMapEntries_b127 C Rr N k110 _ _ _ _ _ w
    · obtain ⟨a272, e273, w⟩ := w
      obtain ⟨k274, w⟩ := w
      refine g_nar 0 [13] rfl e273 (by rw [k274]; decide) ?_
      refine g_callF (As := []) (T := [13]) (st := []) "java/util/LinkedHashMap$LinkedEntryIterator" 127 rfl C dJ1_putMapEntries_122 q943 q817 q819 q33 q821 q793 q792 q820 q818 q781 okn_a0cf24 (by decide) (by decide) (Nat.le_of_ble_eq_true rfl) e273 (fun _ => kC rfl k274) rfl (ct_J19_next C.glob w) (fun r0 h276 p277 x278 _ => ?_)
      obtain ⟨r275, rfl, w⟩ := p277
      have w := w x278
      change Gd _ _ _ _ (vR [6, 7] r275 :: [])
      refine g_sub [some none, none, some none, none, some none, none, none, none] [some [4, 5, 6, 7, 60]] rfl rfl ?_
      exact wk_J1_putMapEntries_b127 C Rr N k110 _ _ _ _ _ w
def wp_J1_putMapEntries_b110 (K : Hp → Prop) : Nat → Hp → Option Nat → Int32 → Option Nat → Prop
  | 0 => fun _ _ _ _ => False
  | m9 + 1 => fun h l0 l2 l4 =>
    ((∃ a222, l4 = some a222 ∧ (kd h a222 ∈ [11, 12] ∧ (wp_J15_hasNext h l4 (fun r225 h226 => Ex h h226 → (wp_J1_putMapEntries_b117 (wp_J1_putMapEntries_b110 K m9) K h226 l0 l2 l4 r225))))) ∨ (∃ a229, l4 = some a229 ∧ (kd h a229 = 13 ∧ (wp_J18_hasNext h l4 (fun r232 h233 => Ex h h233 → (wp_J1_putMapEntries_b117 (wp_J1_putMapEntries_b110 K m9) K h233 l0 l2 l4 r232))))))
set_option maxHeartbeats 4000000 in
theorem wk_J1_putMapEntries_b110 {X : Fx} {K : Hp → Prop} (C : Cx X cJ1_putMapEntries yJ1_putMapEntries.cls 8 25) (Rr : Rx X (Option.none : Option Jvm.ClassFile.FieldType) (pV K)) (N : Nm X yJ1_putMapEntries.name) : ∀ (n : Nat) (h : Hp) (l0 : Option Nat) (l2 : Int32) (l4 : Option Nat), wp_J1_putMapEntries_b110 K n h l0 l2 l4 → Gd X h 110 [some (vR [2, 3] l0), none, some (vI l2), none, some (vR [11, 12, 13] l4), none, none, none] [] := by
  intro n
  induction n with
  | zero => intro h l0 l2 l4 w; exact w.elim
  | succ n ih =>
    intro h l0 l2 l4 w
    unfold wp_J1_putMapEntries_b110 at w
    refine g_aload 112 rfl C dJ1_putMapEntries_110 rfl ?_
    rcases w with w | w
    · obtain ⟨a222, e223, w⟩ := w
      obtain ⟨k224, w⟩ := w
      have k224 : kd _ _ ∈ [11, 12] := k224
      simp only [List.mem_cons, List.not_mem_nil, or_false] at k224
      rcases k224 with k224 | k224
      · refine g_nar 0 [11, 12] rfl e223 (by rw [k224]; decide) ?_
        refine g_callF (As := []) (T := [11, 12]) (st := []) "java/util/HashMap$KeyIterator" 117 rfl C dJ1_putMapEntries_112 q941 q779 q775 q29 q777 q771 q770 q776 q780 q778 okn_1bd07e (by decide) (by decide) (Nat.le_of_ble_eq_true rfl) e223 (fun _ => kC rfl k224) rfl (ct_J15_hasNext C.glob w) (fun r0 h226 p227 x228 _ => ?_)
        obtain ⟨r225, rfl, w⟩ := p227
        have w := w x228
        change Gd _ _ _ _ (vI r225 :: [])
        refine g_sub [some none, none, some none, none, some none, none, none, none] [none] rfl rfl ?_
        exact wk_J1_putMapEntries_b117 C Rr N ih _ _ _ _ _ w
      · refine g_nar 0 [11, 12] rfl e223 (by rw [k224]; decide) ?_
        refine g_callF (As := []) (T := [11, 12]) (st := []) "java/util/HashMap$EntryIterator" 117 rfl C dJ1_putMapEntries_112 q941 q773 q775 q29 q777 q771 q770 q776 q774 q772 okn_1bd07e (by decide) (by decide) (Nat.le_of_ble_eq_true rfl) e223 (fun _ => kC rfl k224) rfl (ct_J15_hasNext C.glob w) (fun r0 h226 p227 x228 _ => ?_)
        obtain ⟨r225, rfl, w⟩ := p227
        have w := w x228
        change Gd _ _ _ _ (vI r225 :: [])
        refine g_sub [some none, none, some none, none, some none, none, none, none] [none] rfl rfl ?_
        exact wk_J1_putMapEntries_b117 C Rr N ih _ _ _ _ _ w
    · obtain ⟨a229, e230, w⟩ := w
      obtain ⟨k231, w⟩ := w
      refine g_nar 0 [13] rfl e230 (by rw [k231]; decide) ?_
      refine g_callF (As := []) (T := [13]) (st := []) "java/util/LinkedHashMap$LinkedEntryIterator" 117 rfl C dJ1_putMapEntries_112 q941 q782 q784 q32 q786 q771 q770 q785 q783 q781 okn_1bd07e (by decide) (by decide) (Nat.le_of_ble_eq_true rfl) e230 (fun _ => kC rfl k231) rfl (ct_J18_hasNext C.glob w) (fun r0 h233 p234 x235 _ => ?_)
      obtain ⟨r232, rfl, w⟩ := p234
      have w := w x235
      change Gd _ _ _ _ (vI r232 :: [])
      refine g_sub [some none, none, some none, none, some none, none, none, none] [none] rfl rfl ?_
      exact wk_J1_putMapEntries_b117 C Rr N ih _ _ _ _ _ w
def wp_J1_putMapEntries_b108 (K : Hp → Prop) (h : Hp) (l0 : Option Nat) (l2 : Int32) (s0 : Option Nat) : Prop :=
  (∃ n, wp_J1_putMapEntries_b110 K n h l0 l2 s0)
set_option maxHeartbeats 4000000 in
theorem wk_J1_putMapEntries_b108 {X : Fx} {K : Hp → Prop} (C : Cx X cJ1_putMapEntries yJ1_putMapEntries.cls 8 25) (Rr : Rx X (Option.none : Option Jvm.ClassFile.FieldType) (pV K)) (N : Nm X yJ1_putMapEntries.name) (h : Hp) (l0 : Option Nat) (l2 : Int32) (s0 : Option Nat) (w : wp_J1_putMapEntries_b108 K h l0 l2 s0) : Gd X h 108 [some (vR [2, 3] l0), none, some (vI l2), none, none, none, none, none] [vR [11, 12, 13] s0] := by
  unfold wp_J1_putMapEntries_b108 at w
  refine g_astore 110 rfl C dJ1_putMapEntries_108 (by decide) (rfl : _ = [some (vR [2, 3] _), none, some (vI _), none, some (vR [11, 12, 13] _), none, none, none]) ?_
  refine g_sub [some none, none, some none, none, some none, none, none, none] [] rfl rfl ?_
  obtain ⟨n9, w⟩ := w
  exact wk_J1_putMapEntries_b110 C Rr N n9 _ _ _ _ w
def wp_J1_putMapEntries_b103 (K : Hp → Prop) (h : Hp) (l0 : Option Nat) (l2 : Int32) (s0 : Option Nat) : Prop :=
  ((∃ a194, s0 = some a194 ∧ (kd h a194 = 8 ∧ (wp_J13_iterator h s0 (fun r197 h198 => Ex h h198 → (wp_J1_putMapEntries_b108 K h198 l0 l2 r197))))) ∨ (∃ a201, s0 = some a201 ∧ (kd h a201 = 9 ∧ (wp_J22_iterator h s0 (fun r204 h205 => Ex h h205 → (wp_J1_putMapEntries_b108 K h205 l0 l2 r204))))) ∨ (∃ a208, s0 = some a208 ∧ (kd h a208 = 10 ∧ (wp_J23_iterator h s0 (fun r211 h212 => Ex h h212 → (wp_J1_putMapEntries_b108 K h212 l0 l2 r211))))))
set_option maxHeartbeats 4000000 in
theorem wk_J1_putMapEntries_b103 {X : Fx} {K : Hp → Prop} (C : Cx X cJ1_putMapEntries yJ1_putMapEntries.cls 8 25) (Rr : Rx X (Option.none : Option Jvm.ClassFile.FieldType) (pV K)) (N : Nm X yJ1_putMapEntries.name) (h : Hp) (l0 : Option Nat) (l2 : Int32) (s0 : Option Nat) (w : wp_J1_putMapEntries_b103 K h l0 l2 s0) : Gd X h 103 [some (vR [2, 3] l0), none, some (vI l2), none, none, none, none, none] [vR [8, 9, 10] s0] := by
  unfold wp_J1_putMapEntries_b103 at w
  rcases w with w | w | w
  · obtain ⟨a194, e195, w⟩ := w
    obtain ⟨k196, w⟩ := w
    refine g_nar 0 [8] rfl e195 (by rw [k196]; decide) ?_
    refine g_callF (As := []) (T := [8]) (st := []) "java/util/HashMap$KeySet" 108 rfl C dJ1_putMapEntries_103 q939 q702 q704 q27 q706 q669 q668 q705 q703 q701 okn_e2e68a (by decide) (by decide) (Nat.le_of_ble_eq_true rfl) e195 (fun _ => kC rfl k196) rfl (ct_J13_iterator C.glob w) (fun r0 h198 p199 x200 _ => ?_)
    obtain ⟨r197, rfl, w⟩ := p199
    have w := w x200
    change Gd _ _ _ _ (vR [11, 12, 13] r197 :: [])
    refine g_sub [some none, none, some none, none, none, none, none, none] [none] rfl rfl ?_
    exact wk_J1_putMapEntries_b108 C Rr N _ _ _ _ w
  · obtain ⟨a201, e202, w⟩ := w
    obtain ⟨k203, w⟩ := w
    refine g_nar 0 [9] rfl e202 (by rw [k203]; decide) ?_
    refine g_callF (As := []) (T := [9]) (st := []) "java/util/HashMap$EntrySet" 108 rfl C dJ1_putMapEntries_103 q939 q671 q673 q37 q675 q669 q668 q674 q672 q670 okn_e2e68a (by decide) (by decide) (Nat.le_of_ble_eq_true rfl) e202 (fun _ => kC rfl k203) rfl (ct_J22_iterator C.glob w) (fun r0 h205 p206 x207 _ => ?_)
    obtain ⟨r204, rfl, w⟩ := p206
    have w := w x207
    change Gd _ _ _ _ (vR [11, 12, 13] r204 :: [])
    refine g_sub [some none, none, some none, none, none, none, none, none] [none] rfl rfl ?_
    exact wk_J1_putMapEntries_b108 C Rr N _ _ _ _ w
  · obtain ⟨a208, e209, w⟩ := w
    obtain ⟨k210, w⟩ := w
    refine g_nar 0 [10] rfl e209 (by rw [k210]; decide) ?_
    refine g_callF (As := []) (T := [10]) (st := []) "java/util/LinkedHashMap$LinkedEntrySet" 108 rfl C dJ1_putMapEntries_103 q939 q720 q722 q38 q724 q669 q668 q723 q721 q719 okn_e2e68a (by decide) (by decide) (Nat.le_of_ble_eq_true rfl) e209 (fun _ => kC rfl k210) rfl (ct_J23_iterator C.glob w) (fun r0 h212 p213 x214 _ => ?_)
    obtain ⟨r211, rfl, w⟩ := p213
    have w := w x214
    change Gd _ _ _ _ (vR [11, 12, 13] r211 :: [])
    refine g_sub [some none, none, some none, none, none, none, none, none] [none] rfl rfl ?_
    exact wk_J1_putMapEntries_b108 C Rr N _ _ _ _ w
def wp_J1_putMapEntries_b97 (K : Hp → Prop) (h : Hp) (l0 : Option Nat) (l1 : Option Nat) (l2 : Int32) : Prop :=
  ((∃ a155, l1 = some a155 ∧ (kd h a155 = 2 ∧ (wp_J1_entrySet h l1 (fun r158 h159 => Ex h h159 → (wp_J1_putMapEntries_b103 K h159 l0 l2 r158))))) ∨ (∃ a162, l1 = some a162 ∧ (kd h a162 = 3 ∧ (wp_J2_entrySet h l1 (fun r165 h166 => Ex h h166 → (wp_J1_putMapEntries_b103 K h166 l0 l2 r165))))))
set_option maxHeartbeats 4000000 in
theorem wk_J1_putMapEntries_b97 {X : Fx} {K : Hp → Prop} (C : Cx X cJ1_putMapEntries yJ1_putMapEntries.cls 8 25) (Rr : Rx X (Option.none : Option Jvm.ClassFile.FieldType) (pV K)) (N : Nm X yJ1_putMapEntries.name) (h : Hp) (l0 : Option Nat) (l1 : Option Nat) (l2 : Int32) (w : wp_J1_putMapEntries_b97 K h l0 l1 l2) : Gd X h 97 [some (vR [2, 3] l0), some (vR [2, 3] l1), some (vI l2), none, none, none, none, none] [] := by
  unfold wp_J1_putMapEntries_b97 at w
  refine g_aload_n 98 rfl C dJ1_putMapEntries_97 rfl ?_
  rcases w with w | w
  · obtain ⟨a155, e156, w⟩ := w
    obtain ⟨k157, w⟩ := w
    refine g_callF (As := []) (T := [2, 3]) (st := []) "java/util/HashMap" 103 rfl C dJ1_putMapEntries_98 q898 q901 q903 q11 q905 q900 q899 q904 q902 q863 okn_185f23 (by decide) (by decide) (Nat.le_of_ble_eq_true rfl) e156 (fun _ => kC rfl k157) rfl (ct_J1_entrySet C.glob w) (fun r0 h159 p160 x161 _ => ?_)
    obtain ⟨r158, rfl, w⟩ := p160
    have w := w x161
    change Gd _ _ _ _ (vR [8, 9, 10] r158 :: [])
    refine g_sub [some none, none, some none, none, none, none, none, none] [none] rfl rfl ?_
    exact wk_J1_putMapEntries_b103 C Rr N _ _ _ _ w
  · obtain ⟨a162, e163, w⟩ := w
    obtain ⟨k164, w⟩ := w
    refine g_nar 0 [3] rfl e163 (by rw [k164]; decide) ?_
    refine g_callF (As := []) (T := [3]) (st := []) "java/util/LinkedHashMap" 103 rfl C dJ1_putMapEntries_98 q898 q916 q918 q12 q920 q900 q899 q919 q917 q867 okn_185f23 (by decide) (by decide) (Nat.le_of_ble_eq_true rfl) e163 (fun _ => kC rfl k164) rfl (ct_J2_entrySet C.glob w) (fun r0 h166 p167 x168 _ => ?_)
    obtain ⟨r165, rfl, w⟩ := p167
    have w := w x168
    change Gd _ _ _ _ (vR [8, 9, 10] r165 :: [])
    refine g_sub [some none, none, some none, none, none, none, none, none] [none] rfl rfl ?_
    exact wk_J1_putMapEntries_b103 C Rr N _ _ _ _ w
def wp_J1_putMapEntries_b68 (K : Hp → Prop) (h : Hp) (l0 : Option Nat) (l1 : Option Nat) (l2 : Int32) : Prop :=
  (wp_J1_putMapEntries_b97 K h l0 l1 l2)
set_option maxHeartbeats 4000000 in
theorem wk_J1_putMapEntries_b68 {X : Fx} {K : Hp → Prop} (C : Cx X cJ1_putMapEntries yJ1_putMapEntries.cls 8 25) (Rr : Rx X (Option.none : Option Jvm.ClassFile.FieldType) (pV K)) (N : Nm X yJ1_putMapEntries.name) (h : Hp) (l0 : Option Nat) (l1 : Option Nat) (l2 : Int32) (w : wp_J1_putMapEntries_b68 K h l0 l1 l2) : Gd X h 68 [some (vR [2, 3] l0), some (vR [2, 3] l1), some (vI l2), none, none, none, none, none] [] := by
  unfold wp_J1_putMapEntries_b68 at w
  refine g_goto 97 C dJ1_putMapEntries_68 rfl ?_
  refine g_sub [some none, some none, some none, none, none, none, none, none] [] rfl rfl ?_
  exact wk_J1_putMapEntries_b97 C Rr N _ _ _ _ w
def wp_J1_putMapEntries_b48 (K : Hp → Prop) (h : Hp) (l0 : Option Nat) (l1 : Option Nat) (l2 : Int32) (s0 : Int32) : Prop :=
  (∃ a236, l0 = some a236 ∧ ((s0 ≤ (it h 17 a236) → (wp_J1_putMapEntries_b68 K h l0 l1 l2)) ∧ (¬ s0 ≤ (it h 17 a236) → (wp_J1_tableSizeFor h s0 (fun r240 h241 => Ex h h241 → (∀ h244, h244 = wI h241 17 a236 r240 → (wp_J1_putMapEntries_b68 K h244 l0 l1 l2)))))))
set_option maxHeartbeats 4000000 in
theorem wk_J1_putMapEntries_b48 {X : Fx} {K : Hp → Prop} (C : Cx X cJ1_putMapEntries yJ1_putMapEntries.cls 8 25) (Rr : Rx X (Option.none : Option Jvm.ClassFile.FieldType) (pV K)) (N : Nm X yJ1_putMapEntries.name) (h : Hp) (l0 : Option Nat) (l1 : Option Nat) (l2 : Int32) (s0 : Int32) (w : wp_J1_putMapEntries_b48 K h l0 l1 l2 s0) : Gd X h 48 [some (vR [2, 3] l0), some (vR [2, 3] l1), some (vI l2), none, none, none, none, none] [vI s0] := by
  unfold wp_J1_putMapEntries_b48 at w
  refine g_istore 50 rfl C dJ1_putMapEntries_48 (by decide) (rfl : _ = [some (vR [2, 3] _), some (vR [2, 3] _), some (vI _), none, none, none, some (vI _), none]) ?_
  refine g_iload 52 rfl C dJ1_putMapEntries_50 rfl ?_
  refine g_aload_n 53 rfl C dJ1_putMapEntries_52 rfl ?_
  obtain ⟨a236, e237, w⟩ := w
  refine g_getI 56 rfl C dJ1_putMapEntries_53 fl_HashMap_88 rfl e237 rfl ?_
  refine g_icmp_le 59 68 rfl C dJ1_putMapEntries_56 rfl (fun u238 => ?_) (fun u238 => ?_)
  · have w := w.1 u238
    refine g_sub [some none, some none, some none, none, none, none, none, none] [] rfl rfl ?_
    exact wk_J1_putMapEntries_b68 C Rr N _ _ _ _ w
  · have w := w.2 u238
    refine g_aload_n 60 rfl C dJ1_putMapEntries_59 rfl ?_
    refine g_iload 62 rfl C dJ1_putMapEntries_60 rfl ?_
    refine g_callS (As := [vI _]) (st := [vR [2, 3] _]) 65 rfl C dJ1_putMapEntries_62 q137 q138 q11 q139 okn_e6c13a (by decide) (by decide) (Nat.le_of_ble_eq_true rfl) rfl (ct_J1_tableSizeFor C.glob w) (fun r0 h241 p242 x243 _ => ?_)
    obtain ⟨r240, rfl, w⟩ := p242
    have w := w x243
    change Gd _ _ _ _ (vI r240 :: [vR [2, 3] _])
    refine g_putI 68 rfl C dJ1_putMapEntries_65 fl_HashMap_88 rfl rfl e237 rfl ?_
    have w := w _ rfl
    refine g_sub [some none, some none, some none, none, none, none, none, none] [] rfl rfl ?_
    exact wk_J1_putMapEntries_b68 C Rr N _ _ _ _ w
def wp_J1_putMapEntries_b93 (G71 : Hp → Option Nat → Option Nat → Int32 → Int32 → Prop) (K : Hp → Prop) (h : Hp) (l0 : Option Nat) (l1 : Option Nat) (l2 : Int32) (l3 : Int32) (s0 : Option Nat) : Prop :=
  (G71 h l0 l1 l2 l3)
set_option maxHeartbeats 4000000 in
theorem wk_J1_putMapEntries_b93 {X : Fx} {K : Hp → Prop} (C : Cx X cJ1_putMapEntries yJ1_putMapEntries.cls 8 25) (Rr : Rx X (Option.none : Option Jvm.ClassFile.FieldType) (pV K)) (N : Nm X yJ1_putMapEntries.name) {G71 : Hp → Option Nat → Option Nat → Int32 → Int32 → Prop} (k71 : ∀ (h : Hp) (l0 : Option Nat) (l1 : Option Nat) (l2 : Int32) (l3 : Int32), G71 h l0 l1 l2 l3 → Gd X h 71 [some (vR [2, 3] l0), some (vR [2, 3] l1), some (vI l2), some (vI l3), none, none, none, none] []) (h : Hp) (l0 : Option Nat) (l1 : Option Nat) (l2 : Int32) (l3 : Int32) (s0 : Option Nat) (w : wp_J1_putMapEntries_b93 G71 K h l0 l1 l2 l3 s0) : Gd X h 93 [some (vR [2, 3] l0), some (vR [2, 3] l1), some (vI l2), some (vI l3), none, none, none, none] [vR [51] s0] := by
  unfold wp_J1_putMapEntries_b93 at w
  refine g_pop 94 rfl C dJ1_putMapEntries_93 rfl ?_
  refine g_goto 71 C dJ1_putMapEntries_94 rfl ?_
  refine g_sub [some none, some none, some none, some none, none, none, none, none] [] rfl rfl ?_
  exact k71 _ _ _ _ _ w
def wp_J1_putMapEntries_b71 (K : Hp → Prop) : Nat → Hp → Option Nat → Option Nat → Int32 → Int32 → Prop
  | 0 => fun _ _ _ _ _ => False
  | m9 + 1 => fun h l0 l1 l2 l3 =>
    (∃ a182, l0 = some a182 ∧ ((l3 ≤ (it h 17 a182) → (wp_J1_putMapEntries_b97 K h l0 l1 l2)) ∧ (¬ l3 ≤ (it h 17 a182) → (∃ a185, (rf h 13 a182) = some a185 ∧ (ln h a185 < 2 ^ 26 → (((1073741824 : Int32) ≤ (nI (ln h a185)) → (wp_J1_putMapEntries_b97 K h l0 l1 l2)) ∧ (¬ (1073741824 : Int32) ≤ (nI (ln h a185)) → (wp_J1_resize h l0 (fun r190 h191 => Ex h h191 → (wp_J1_putMapEntries_b93 (wp_J1_putMapEntries_b71 K m9) K h191 l0 l1 l2 l3 r190))))))))))
set_option maxHeartbeats 4000000 in
theorem wk_J1_putMapEntries_b71 {X : Fx} {K : Hp → Prop} (C : Cx X cJ1_putMapEntries yJ1_putMapEntries.cls 8 25) (Rr : Rx X (Option.none : Option Jvm.ClassFile.FieldType) (pV K)) (N : Nm X yJ1_putMapEntries.name) : ∀ (n : Nat) (h : Hp) (l0 : Option Nat) (l1 : Option Nat) (l2 : Int32) (l3 : Int32), wp_J1_putMapEntries_b71 K n h l0 l1 l2 l3 → Gd X h 71 [some (vR [2, 3] l0), some (vR [2, 3] l1), some (vI l2), some (vI l3), none, none, none, none] [] := by
  intro n
  induction n with
  | zero => intro h l0 l1 l2 l3 w; exact w.elim
  | succ n ih =>
    intro h l0 l1 l2 l3 w
    unfold wp_J1_putMapEntries_b71 at w
    refine g_iload_n 72 rfl C dJ1_putMapEntries_71 rfl ?_
    refine g_aload_n 73 rfl C dJ1_putMapEntries_72 rfl ?_
    obtain ⟨a182, e183, w⟩ := w
    refine g_getI 76 rfl C dJ1_putMapEntries_73 fl_HashMap_88 rfl e183 rfl ?_
    refine g_icmp_le 79 97 rfl C dJ1_putMapEntries_76 rfl (fun u184 => ?_) (fun u184 => ?_)
    · have w := w.1 u184
      refine g_sub [some none, some none, some none, none, none, none, none, none] [] rfl rfl ?_
      exact wk_J1_putMapEntries_b97 C Rr N _ _ _ _ w
    · have w := w.2 u184
      refine g_aload_n 80 rfl C dJ1_putMapEntries_79 rfl ?_
      refine g_getR 83 rfl C dJ1_putMapEntries_80 fl_HashMap_105 rfl e183 rfl ?_
      obtain ⟨a185, e186, w⟩ := w
      refine g_alen 84 rfl C dJ1_putMapEntries_83 e186 rfl (fun u187 => ?_)
      have w := w u187
      refine g_ldc 86 rfl C dJ1_putMapEntries_84 q133 ?_
      refine g_icmp_ge 89 97 rfl C dJ1_putMapEntries_86 rfl (fun u188 => ?_) (fun u188 => ?_)
      · have w := w.1 u188
        refine g_sub [some none, some none, some none, none, none, none, none, none] [] rfl rfl ?_
        exact wk_J1_putMapEntries_b97 C Rr N _ _ _ _ w
      · have w := w.2 u188
        refine g_aload_n 90 rfl C dJ1_putMapEntries_89 rfl ?_
        refine g_known 0 rfl e183 (fun k189 => ?_)
        have k189 : kd _ _ ∈ [2, 3] := k189
        simp only [List.mem_cons, List.not_mem_nil, or_false] at k189
        rcases k189 with k189 | k189
        · refine g_callU (As := []) (T := [2, 3]) (st := []) "java/util/HashMap" 93 rfl C dJ1_putMapEntries_90 q212 q215 dcl_c76c33 q214 q213 q11 q217 okn_4da807 (by decide) (by decide) (Nat.le_of_ble_eq_true rfl) e183 (fun _ => kC rfl k189) rfl (ct_J1_resize C.glob w) (fun r0 h191 p192 x193 _ => ?_)
          obtain ⟨r190, rfl, w⟩ := p192
          have w := w x193
          change Gd _ _ _ _ (vR [51] r190 :: [])
          refine g_sub [some none, some none, some none, some none, none, none, none, none] [none] rfl rfl ?_
          exact wk_J1_putMapEntries_b93 C Rr N ih _ _ _ _ _ _ w
        · refine g_callU (As := []) (T := [2, 3]) (st := []) "java/util/LinkedHashMap" 93 rfl C dJ1_putMapEntries_90 q212 q215 dcl_c76c33 q216 q213 q11 q217 okn_4da807 (by decide) (by decide) (Nat.le_of_ble_eq_true rfl) e183 (fun _ => kC rfl k189) rfl (ct_J1_resize C.glob w) (fun r0 h191 p192 x193 _ => ?_)
          obtain ⟨r190, rfl, w⟩ := p192
          have w := w x193
          change Gd _ _ _ _ (vR [51] r190 :: [])
          refine g_sub [some none, some none, some none, some none, none, none, none, none] [none] rfl rfl ?_
          exact wk_J1_putMapEntries_b93 C Rr N ih _ _ _ _ _ _ w
def wp_J1_putMapEntries_b6 (K : Hp → Prop) (h : Hp) (l0 : Option Nat) (l1 : Option Nat) (l2 : Int32) (s0 : Int32) : Prop :=
  ((s0 ≤ 0 → (wp_J1_putMapEntries_b169 K h)) ∧ (¬ s0 ≤ 0 → (∃ a170, l0 = some a170 ∧ (((rf h 13 a170) = none → (vf_n64 (FP.f2d ((it h 18 a170).toUInt32)) ∧ (vf_n64 (FP.ddiv (FP.i2d s0) (FP.f2d ((it h 18 a170).toUInt32))) ∧ (wp_J10_ceil h (FP.ddiv (FP.i2d s0) (FP.f2d ((it h 18 a170).toUInt32))) (fun r177 h178 => Ex h h178 → ((0 ≤ (Op.cmpValue (FP.dcmp r177 (4742290407621132288 : UInt64)) .g) → (wp_J1_putMapEntries_b48 K h178 l0 l1 l2 (1073741824 : Int32))) ∧ (¬ 0 ≤ (Op.cmpValue (FP.dcmp r177 (4742290407621132288 : UInt64)) .g) → (wp_J1_putMapEntries_b48 K h178 l0 l1 l2 (FP.d2i r177))))))))) ∧ (∀ a173, (rf h 13 a170) = some a173 → (∃ n, wp_J1_putMapEntries_b71 K n h l0 l1 l2 s0))))))
set_option maxHeartbeats 4000000 in
theorem wk_J1_putMapEntries_b6 {X : Fx} {K : Hp → Prop} (C : Cx X cJ1_putMapEntries yJ1_putMapEntries.cls 8 25) (Rr : Rx X (Option.none : Option Jvm.ClassFile.FieldType) (pV K)) (N : Nm X yJ1_putMapEntries.name) (h : Hp) (l0 : Option Nat) (l1 : Option Nat) (l2 : Int32) (s0 : Int32) (w : wp_J1_putMapEntries_b6 K h l0 l1 l2 s0) : Gd X h 6 [some (vR [2, 3] l0), some (vR [2, 3] l1), some (vI l2), none, none, none, none, none] [vI s0] := by
  unfold wp_J1_putMapEntries_b6 at w
  refine g_istore_n 7 rfl C dJ1_putMapEntries_6 (by decide) (rfl : _ = [some (vR [2, 3] _), some (vR [2, 3] _), some (vI _), some (vI _), none, none, none, none]) ?_
  refine g_iload_n 8 rfl C dJ1_putMapEntries_7 rfl ?_
  refine g_if_le 11 169 rfl C dJ1_putMapEntries_8 rfl (fun u169 => ?_) (fun u169 => ?_)
  · have w := w.1 u169
    refine g_sub [none, none, none, none, none, none, none, none] [] rfl rfl ?_
    exact wk_J1_putMapEntries_b169 C Rr N _ w
  · have w := w.2 u169
    refine g_aload_n 12 rfl C dJ1_putMapEntries_11 rfl ?_
    obtain ⟨a170, e171, w⟩ := w
    refine g_getR 15 rfl C dJ1_putMapEntries_12 fl_HashMap_105 rfl e171 rfl ?_
    refine g_ifnonnull 18 71 rfl C dJ1_putMapEntries_15 rfl (fun a173 u172 => ?_) (fun u172 => ?_)
    · have w := w.2 a173 u172
      refine g_sub [some none, some none, some none, some none, none, none, none, none] [] rfl rfl ?_
      obtain ⟨n9, w⟩ := w
      exact wk_J1_putMapEntries_b71 C Rr N n9 _ _ _ _ _ w
    · have w := w.1 u172
      refine g_iload_n 19 rfl C dJ1_putMapEntries_18 rfl ?_
      refine g_i2d 20 rfl C dJ1_putMapEntries_19 ?_
      refine g_aload_n 21 rfl C dJ1_putMapEntries_20 rfl ?_
      refine g_getF 24 rfl C dJ1_putMapEntries_21 fl_HashMap_81 rfl e171 rfl ?_
      obtain ⟨e174, w⟩ := w
      refine g_f2d 25 rfl C dJ1_putMapEntries_24 e174 ?_
      obtain ⟨e175, w⟩ := w
      refine g_ddiv 26 rfl C dJ1_putMapEntries_25 e175 ?_
      refine g_ceil (st := []) 29 rfl C dJ1_putMapEntries_26 q870 (by decide) (Nat.le_of_ble_eq_true rfl) w (fun r177 h178 w x180 => ?_)
      have w := w x180
      change Gd _ _ _ _ (vD r177 :: [])
      refine g_dstore 31 rfl C dJ1_putMapEntries_29 (by decide) (rfl : _ = [some (vR [2, 3] _), some (vR [2, 3] _), some (vI _), some (vI _), some (vD _), none, none, none]) ?_
      refine g_dload 33 rfl C dJ1_putMapEntries_31 rfl ?_
      refine g_ldc2d 36 rfl C dJ1_putMapEntries_33 q896 ?_
      refine g_dcmp 37 rfl C dJ1_putMapEntries_36 ?_
      refine g_if_ge 40 46 rfl C dJ1_putMapEntries_37 rfl (fun u181 => ?_) (fun u181 => ?_)
      · have w := w.1 u181
        refine g_ldc 48 rfl C dJ1_putMapEntries_46 q133 ?_
        refine g_sub [some none, some none, some none, none, none, none, none, none] [none] rfl rfl ?_
        exact wk_J1_putMapEntries_b48 C Rr N _ _ _ _ _ w
      · have w := w.2 u181
        refine g_dload 42 rfl C dJ1_putMapEntries_40 rfl ?_
        refine g_d2i 43 rfl C dJ1_putMapEntries_42 ?_
        refine g_goto 48 C dJ1_putMapEntries_43 rfl ?_
        refine g_sub [some none, some none, some none, none, none, none, none, none] [none] rfl rfl ?_
        exact wk_J1_putMapEntries_b48 C Rr N _ _ _ _ _ w
def wp_J1_putMapEntries (h : Hp) (x0 : Option Nat) (x1 : Option Nat) (x2 : Int32) (K : Hp → Prop) : Prop :=
  (∃ a148, x1 = some a148 ∧ (wp_J1_size h x1 (fun r151 h152 => Ex h h152 → (wp_J1_putMapEntries_b6 K h152 x0 x1 x2 r151))))
set_option maxHeartbeats 4000000 in
theorem wk_J1_putMapEntries {X : Fx} {K : Hp → Prop} (C : Cx X cJ1_putMapEntries yJ1_putMapEntries.cls 8 25) (Rr : Rx X (Option.none : Option Jvm.ClassFile.FieldType) (pV K)) (N : Nm X yJ1_putMapEntries.name) (h : Hp) (x0 : Option Nat) (x1 : Option Nat) (x2 : Int32) (w : wp_J1_putMapEntries h x0 x1 x2 K) : Gd X h 0 [some (vR [2, 3] x0), some (vR [2, 3] x1), some (vI x2), none, none, none, none, none] [] := by
  unfold wp_J1_putMapEntries at w
  refine g_aload_n 1 rfl C dJ1_putMapEntries_0 rfl ?_
  obtain ⟨a148, e149, w⟩ := w
  refine g_known 0 rfl e149 (fun k150 => ?_)
  have k150 : kd _ _ ∈ [2, 3] := k150
  simp only [List.mem_cons, List.not_mem_nil, or_false] at k150
  rcases k150 with k150 | k150
  · refine g_callF (As := []) (T := [2, 3]) (st := []) "java/util/HashMap" 6 rfl C dJ1_putMapEntries_1 q860 q864 q599 q11 q603 q862 q861 q866 q865 q863 okn_b204ba (by decide) (by decide) (Nat.le_of_ble_eq_true rfl) e149 (fun _ => kC rfl k150) rfl (ct_J1_size C.glob w) (fun r0 h152 p153 x154 _ => ?_)
    obtain ⟨r151, rfl, w⟩ := p153
    have w := w x154
    change Gd _ _ _ _ (vI r151 :: [])
    refine g_sub [some none, some none, some none, none, none, none, none, none] [none] rfl rfl ?_
    exact wk_J1_putMapEntries_b6 C Rr N _ _ _ _ _ w
  · refine g_callF (As := []) (T := [2, 3]) (st := []) "java/util/LinkedHashMap" 6 rfl C dJ1_putMapEntries_1 q860 q868 q599 q11 q603 q862 q861 q866 q869 q867 okn_b204ba (by decide) (by decide) (Nat.le_of_ble_eq_true rfl) e149 (fun _ => kC rfl k150) rfl (ct_J1_size C.glob w) (fun r0 h152 p153 x154 _ => ?_)
    obtain ⟨r151, rfl, w⟩ := p153
    have w := w x154
    change Gd _ _ _ _ (vI r151 :: [])
    refine g_sub [some none, some none, some none, none, none, none, none, none] [none] rfl rfl ?_
    exact wk_J1_putMapEntries_b6 C Rr N _ _ _ _ _ w
theorem ct_J1_putMapEntries {E : Gx} (GE : Glob E) {h : Hp} {x0 : Option Nat} {x1 : Option Nat} {x2 : Int32} {K : Hp → Prop} (w : wp_J1_putMapEntries h x0 x1 x2 K) : Ct E yJ1_putMapEntries cJ1_putMapEntries 8 (Option.none : Option Jvm.ClassFile.FieldType) 25 [vR [2, 3] x0, vR [2, 3] x1, vI x2] h (pV K) :=
  Ct.of GE (by decide +kernel) (by simp [lvA, t2]) rfl (fun X hX C Rr N => wk_J1_putMapEntries C Rr N h x0 x1 x2 w)
def wp_J1_putAll_b6 (K : Hp → Prop) (h : Hp)  : Prop :=
  (K h)
set_option maxHeartbeats 4000000 in
theorem wk_J1_putAll_b6 {X : Fx} {K : Hp → Prop} (C : Cx X cJ1_putAll yJ1_putAll.cls 2 26) (Rr : Rx X (Option.none : Option Jvm.ClassFile.FieldType) (pV K)) (N : Nm X yJ1_putAll.name) (h : Hp)  (w : wp_J1_putAll_b6 K h ) : Gd X h 6 [none, none] [] := by
  unfold wp_J1_putAll_b6 at w
  exact g_vreturn C Rr dJ1_putAll_6 ⟨rfl, w⟩
def wp_J1_putAll (h : Hp) (x0 : Option Nat) (x1 : Option Nat) (K : Hp → Prop) : Prop :=
  (∃ a8, x0 = some a8 ∧ (wp_J1_putMapEntries h x0 x1 1 (fun h12 => Ex h h12 → (wp_J1_putAll_b6 K h12))))
set_option maxHeartbeats 4000000 in
theorem wk_J1_putAll {X : Fx} {K : Hp → Prop} (C : Cx X cJ1_putAll yJ1_putAll.cls 2 26) (Rr : Rx X (Option.none : Option Jvm.ClassFile.FieldType) (pV K)) (N : Nm X yJ1_putAll.name) (h : Hp) (x0 : Option Nat) (x1 : Option Nat) (w : wp_J1_putAll h x0 x1 K) : Gd X h 0 [some (vR [2, 3] x0), some (vR [2, 3] x1)] [] := by
  unfold wp_J1_putAll at w
  refine g_aload_n 1 rfl C dJ1_putAll_0 rfl ?_
  refine g_aload_n 2 rfl C dJ1_putAll_1 rfl ?_
  refine g_iconst 3 rfl C dJ1_putAll_2 1 rfl ?_
  obtain ⟨a8, e9, w⟩ := w
  refine g_known 2 rfl e9 (fun k10 => ?_)
  have k10 : kd _ _ ∈ [2, 3] := k10
  simp only [List.mem_cons, List.not_mem_nil, or_false] at k10
  rcases k10 with k10 | k10
  · refine g_callU (As := [vR [2, 3] _, vI _]) (T := [2, 3]) (st := []) "java/util/HashMap" 6 rfl C dJ1_putAll_3 q853 q856 dcl_2a4184 q855 q854 q11 q858 okn_f6c9ff (by decide) (by decide) (Nat.le_of_ble_eq_true rfl) e9 (fun _ => kC rfl k10) rfl (ct_J1_putMapEntries C.glob w) (fun r0 h12 p13 x14 _ => ?_)
    obtain ⟨rfl, w⟩ := p13
    have w := w x14
    change Gd _ _ _ _ []
    refine g_sub [none, none] [] rfl rfl ?_
    exact wk_J1_putAll_b6 C Rr N _ w
  · refine g_callU (As := [vR [2, 3] _, vI _]) (T := [2, 3]) (st := []) "java/util/LinkedHashMap" 6 rfl C dJ1_putAll_3 q853 q856 dcl_2a4184 q857 q854 q11 q858 okn_f6c9ff (by decide) (by decide) (Nat.le_of_ble_eq_true rfl) e9 (fun _ => kC rfl k10) rfl (ct_J1_putMapEntries C.glob w) (fun r0 h12 p13 x14 _ => ?_)
    obtain ⟨rfl, w⟩ := p13
    have w := w x14
    change Gd _ _ _ _ []
    refine g_sub [none, none] [] rfl rfl ?_
    exact wk_J1_putAll_b6 C Rr N _ w
theorem ct_J1_putAll {E : Gx} (GE : Glob E) {h : Hp} {x0 : Option Nat} {x1 : Option Nat} {K : Hp → Prop} (w : wp_J1_putAll h x0 x1 K) : Ct E yJ1_putAll cJ1_putAll 2 (Option.none : Option Jvm.ClassFile.FieldType) 26 [vR [2, 3] x0, vR [2, 3] x1] h (pV K) :=
  Ct.of GE (by decide +kernel) (by simp [lvA, t2]) rfl (fun X hX C Rr N => wk_J1_putAll C Rr N h x0 x1 w)
def wp_X0_pour_b44 (K : Int32 → Hp → Prop) (h : Hp)  : Prop :=
  (K (-1) h)
set_option maxHeartbeats 4000000 in
theorem wk_X0_pour_b44 {X : Fx} {K : Int32 → Hp → Prop} (C : Cx X cX0_pour yX0_pour.cls 5 27) (Rr : Rx X (Option.some Jvm.ClassFile.FieldType.int) (pI K)) (N : Nm X yX0_pour.name) (h : Hp)  (w : wp_X0_pour_b44 K h ) : Gd X h 44 [none, none, none, none, none] [] := by
  unfold wp_X0_pour_b44 at w
  refine g_iconst 45 rfl C dX0_pour_44 (-1) rfl ?_
  exact g_ireturn C Rr dX0_pour_45 ⟨_, rfl, w⟩
def wp_X0_pour_b64 (K : Int32 → Hp → Prop) (h : Hp)  : Prop :=
  (K (-1) h)
set_option maxHeartbeats 4000000 in
theorem wk_X0_pour_b64 {X : Fx} {K : Int32 → Hp → Prop} (C : Cx X cX0_pour yX0_pour.cls 5 27) (Rr : Rx X (Option.some Jvm.ClassFile.FieldType.int) (pI K)) (N : Nm X yX0_pour.name) (h : Hp)  (w : wp_X0_pour_b64 K h ) : Gd X h 64 [none, none, none, none, none] [] := by
  unfold wp_X0_pour_b64 at w
  refine g_iconst 65 rfl C dX0_pour_64 (-1) rfl ?_
  exact g_ireturn C Rr dX0_pour_65 ⟨_, rfl, w⟩
def wp_X0_pour_b77 (K : Int32 → Hp → Prop) (h : Hp) (s0 : Int32) : Prop :=
  (K s0 h)
set_option maxHeartbeats 4000000 in
theorem wk_X0_pour_b77 {X : Fx} {K : Int32 → Hp → Prop} (C : Cx X cX0_pour yX0_pour.cls 5 27) (Rr : Rx X (Option.some Jvm.ClassFile.FieldType.int) (pI K)) (N : Nm X yX0_pour.name) (h : Hp) (s0 : Int32) (w : wp_X0_pour_b77 K h s0) : Gd X h 77 [none, none, none, none, none] [vI s0] := by
  unfold wp_X0_pour_b77 at w
  exact g_ireturn C Rr dX0_pour_77 ⟨_, rfl, w⟩
def wp_X0_pour_b72 (K : Int32 → Hp → Prop) (h : Hp) (l4 : Option Nat) : Prop :=
  (∃ a102, l4 = some a102 ∧ (wp_J1_size h l4 (fun r105 h106 => Ex h h106 → (wp_X0_pour_b77 K h106 r105))))
set_option maxHeartbeats 4000000 in
theorem wk_X0_pour_b72 {X : Fx} {K : Int32 → Hp → Prop} (C : Cx X cX0_pour yX0_pour.cls 5 27) (Rr : Rx X (Option.some Jvm.ClassFile.FieldType.int) (pI K)) (N : Nm X yX0_pour.name) (h : Hp) (l4 : Option Nat) (w : wp_X0_pour_b72 K h l4) : Gd X h 72 [none, none, none, none, some (vR [2, 3] l4)] [] := by
  unfold wp_X0_pour_b72 at w
  refine g_aload 74 rfl C dX0_pour_72 rfl ?_
  obtain ⟨a102, e103, w⟩ := w
  refine g_known 0 rfl e103 (fun k104 => ?_)
  have k104 : kd _ _ ∈ [2, 3] := k104
  simp only [List.mem_cons, List.not_mem_nil, or_false] at k104
  rcases k104 with k104 | k104
  · refine g_callU (As := []) (T := [2, 3]) (st := []) "java/util/HashMap" 77 rfl C dX0_pour_74 q598 q601 dcl_3acc5a q600 q599 q11 q603 okn_2c64e6 (by decide) (by decide) (Nat.le_of_ble_eq_true rfl) e103 (fun _ => kC rfl k104) rfl (ct_J1_size C.glob w) (fun r0 h106 p107 x108 _ => ?_)
    obtain ⟨r105, rfl, w⟩ := p107
    have w := w x108
    change Gd _ _ _ _ (vI r105 :: [])
    refine g_sub [none, none, none, none, none] [none] rfl rfl ?_
    exact wk_X0_pour_b77 C Rr N _ _ w
  · refine g_callU (As := []) (T := [2, 3]) (st := []) "java/util/LinkedHashMap" 77 rfl C dX0_pour_74 q598 q601 dcl_3acc5a q602 q599 q11 q603 okn_2c64e6 (by decide) (by decide) (Nat.le_of_ble_eq_true rfl) e103 (fun _ => kC rfl k104) rfl (ct_J1_size C.glob w) (fun r0 h106 p107 x108 _ => ?_)
    obtain ⟨r105, rfl, w⟩ := p107
    have w := w x108
    change Gd _ _ _ _ (vI r105 :: [])
    refine g_sub [none, none, none, none, none] [none] rfl rfl ?_
    exact wk_X0_pour_b77 C Rr N _ _ w
def wp_X0_pour_b66 (K : Int32 → Hp → Prop) (h : Hp) (l3 : Option Nat) (l4 : Option Nat) : Prop :=
  (∃ a64, l4 = some a64 ∧ (wp_J1_putAll h l4 l3 (fun h68 => Ex h h68 → (wp_X0_pour_b72 K h68 l4))))
set_option maxHeartbeats 4000000 in
theorem wk_X0_pour_b66 {X : Fx} {K : Int32 → Hp → Prop} (C : Cx X cX0_pour yX0_pour.cls 5 27) (Rr : Rx X (Option.some Jvm.ClassFile.FieldType.int) (pI K)) (N : Nm X yX0_pour.name) (h : Hp) (l3 : Option Nat) (l4 : Option Nat) (w : wp_X0_pour_b66 K h l3 l4) : Gd X h 66 [none, none, none, some (vR [2, 3] l3), some (vR [2, 3] l4)] [] := by
  unfold wp_X0_pour_b66 at w
  refine g_aload 68 rfl C dX0_pour_66 rfl ?_
  refine g_aload_n 69 rfl C dX0_pour_68 rfl ?_
  obtain ⟨a64, e65, w⟩ := w
  refine g_known 1 rfl e65 (fun k66 => ?_)
  have k66 : kd _ _ ∈ [2, 3] := k66
  simp only [List.mem_cons, List.not_mem_nil, or_false] at k66
  rcases k66 with k66 | k66
  · refine g_callU (As := [vR [2, 3] _]) (T := [2, 3]) (st := []) "java/util/HashMap" 72 rfl C dX0_pour_69 q847 q850 dcl_82a39c q849 q848 q11 q852 okn_8c13c7 (by decide) (by decide) (Nat.le_of_ble_eq_true rfl) e65 (fun _ => kC rfl k66) rfl (ct_J1_putAll C.glob w) (fun r0 h68 p69 x70 _ => ?_)
    obtain ⟨rfl, w⟩ := p69
    have w := w x70
    change Gd _ _ _ _ []
    refine g_sub [none, none, none, none, some none] [] rfl rfl ?_
    exact wk_X0_pour_b72 C Rr N _ _ w
  · refine g_callU (As := [vR [2, 3] _]) (T := [2, 3]) (st := []) "java/util/LinkedHashMap" 72 rfl C dX0_pour_69 q847 q850 dcl_82a39c q851 q848 q11 q852 okn_8c13c7 (by decide) (by decide) (Nat.le_of_ble_eq_true rfl) e65 (fun _ => kC rfl k66) rfl (ct_J1_putAll C.glob w) (fun r0 h68 p69 x70 _ => ?_)
    obtain ⟨rfl, w⟩ := p69
    have w := w x70
    change Gd _ _ _ _ []
    refine g_sub [none, none, none, none, some none] [] rfl rfl ?_
    exact wk_X0_pour_b72 C Rr N _ _ w
def wp_X0_pour_b37 (K : Int32 → Hp → Prop) (h : Hp) (l1 : Int32) (l2 : Int32) (l3 : Option Nat) (l4 : Option Nat) (s0 : Int32) (s1 : Int32) : Prop :=
  (((s1 + s0) ≤ 1400 → ((¬ l1 = 0 → (wp_X0_pour_b66 K h l3 l4)) ∧ (l1 = 0 → ((l2 = 2 → (wp_X0_pour_b64 K h)) ∧ (¬ l2 = 2 → (wp_X0_hasAll h l4 l3 (fun r97 h98 => Ex h h98 → ((¬ r97 = 0 → (wp_X0_pour_b66 K h98 l3 l4)) ∧ (r97 = 0 → (wp_X0_pour_b64 K h98)))))))))) ∧ (¬ (s1 + s0) ≤ 1400 → (wp_X0_pour_b44 K h)))
set_option maxHeartbeats 4000000 in
theorem wk_X0_pour_b37 {X : Fx} {K : Int32 → Hp → Prop} (C : Cx X cX0_pour yX0_pour.cls 5 27) (Rr : Rx X (Option.some Jvm.ClassFile.FieldType.int) (pI K)) (N : Nm X yX0_pour.name) (h : Hp) (l1 : Int32) (l2 : Int32) (l3 : Option Nat) (l4 : Option Nat) (s0 : Int32) (s1 : Int32) (w : wp_X0_pour_b37 K h l1 l2 l3 l4 s0 s1) : Gd X h 37 [none, some (vI l1), some (vI l2), some (vR [2, 3] l3), some (vR [2, 3] l4)] [vI s0, vI s1] := by
  unfold wp_X0_pour_b37 at w
  refine g_iadd 38 rfl C dX0_pour_37 ?_
  refine g_sipush 41 rfl C dX0_pour_38 1400 (by decide) ?_
  refine g_icmp_le 44 46 rfl C dX0_pour_41 rfl (fun u93 => ?_) (fun u93 => ?_)
  · have w := w.1 u93
    refine g_iload_n 47 rfl C dX0_pour_46 rfl ?_
    refine g_if_ne 50 66 rfl C dX0_pour_47 rfl (fun u94 => ?_) (fun u94 => ?_)
    · have w := w.1 u94
      refine g_sub [none, none, none, some none, some none] [] rfl rfl ?_
      exact wk_X0_pour_b66 C Rr N _ _ _ w
    · have w := w.2 u94
      refine g_iload_n 51 rfl C dX0_pour_50 rfl ?_
      refine g_iconst 52 rfl C dX0_pour_51 2 rfl ?_
      refine g_icmp_eq 55 64 rfl C dX0_pour_52 rfl (fun u95 => ?_) (fun u95 => ?_)
      · have w := w.1 u95
        refine g_sub [none, none, none, none, none] [] rfl rfl ?_
        exact wk_X0_pour_b64 C Rr N _ w
      · have w := w.2 u95
        refine g_aload 57 rfl C dX0_pour_55 rfl ?_
        refine g_aload_n 58 rfl C dX0_pour_57 rfl ?_
        refine g_callS (As := [vR [2, 3] _, vR [2, 3] _]) (st := []) 61 rfl C dX0_pour_58 q621 q622 q9 q623 okn_fc1810 (by decide) (by decide) (Nat.le_of_ble_eq_true rfl) rfl (ct_X0_hasAll C.glob w) (fun r0 h98 p99 x100 _ => ?_)
        obtain ⟨r97, rfl, w⟩ := p99
        have w := w x100
        change Gd _ _ _ _ (vI r97 :: [])
        refine g_if_ne 64 66 rfl C dX0_pour_61 rfl (fun u101 => ?_) (fun u101 => ?_)
        · have w := w.1 u101
          refine g_sub [none, none, none, some none, some none] [] rfl rfl ?_
          exact wk_X0_pour_b66 C Rr N _ _ _ w
        · have w := w.2 u101
          refine g_sub [none, none, none, none, none] [] rfl rfl ?_
          exact wk_X0_pour_b64 C Rr N _ w
  · have w := w.2 u93
    refine g_sub [none, none, none, none, none] [] rfl rfl ?_
    exact wk_X0_pour_b44 C Rr N _ w
def wp_X0_pour_b32 (K : Int32 → Hp → Prop) (h : Hp) (l1 : Int32) (l2 : Int32) (l3 : Option Nat) (l4 : Option Nat) (s0 : Int32) : Prop :=
  (∃ a57, l4 = some a57 ∧ (wp_J1_size h l4 (fun r60 h61 => Ex h h61 → (wp_X0_pour_b37 K h61 l1 l2 l3 l4 r60 s0))))
set_option maxHeartbeats 4000000 in
theorem wk_X0_pour_b32 {X : Fx} {K : Int32 → Hp → Prop} (C : Cx X cX0_pour yX0_pour.cls 5 27) (Rr : Rx X (Option.some Jvm.ClassFile.FieldType.int) (pI K)) (N : Nm X yX0_pour.name) (h : Hp) (l1 : Int32) (l2 : Int32) (l3 : Option Nat) (l4 : Option Nat) (s0 : Int32) (w : wp_X0_pour_b32 K h l1 l2 l3 l4 s0) : Gd X h 32 [none, some (vI l1), some (vI l2), some (vR [2, 3] l3), some (vR [2, 3] l4)] [vI s0] := by
  unfold wp_X0_pour_b32 at w
  refine g_aload 34 rfl C dX0_pour_32 rfl ?_
  obtain ⟨a57, e58, w⟩ := w
  refine g_known 0 rfl e58 (fun k59 => ?_)
  have k59 : kd _ _ ∈ [2, 3] := k59
  simp only [List.mem_cons, List.not_mem_nil, or_false] at k59
  rcases k59 with k59 | k59
  · refine g_callU (As := []) (T := [2, 3]) (st := [vI _]) "java/util/HashMap" 37 rfl C dX0_pour_34 q598 q601 dcl_3acc5a q600 q599 q11 q603 okn_2c64e6 (by decide) (by decide) (Nat.le_of_ble_eq_true rfl) e58 (fun _ => kC rfl k59) rfl (ct_J1_size C.glob w) (fun r0 h61 p62 x63 _ => ?_)
    obtain ⟨r60, rfl, w⟩ := p62
    have w := w x63
    change Gd _ _ _ _ (vI r60 :: [vI _])
    refine g_sub [none, some none, some none, some none, some none] [none, none] rfl rfl ?_
    exact wk_X0_pour_b37 C Rr N _ _ _ _ _ _ _ w
  · refine g_callU (As := []) (T := [2, 3]) (st := [vI _]) "java/util/LinkedHashMap" 37 rfl C dX0_pour_34 q598 q601 dcl_3acc5a q602 q599 q11 q603 okn_2c64e6 (by decide) (by decide) (Nat.le_of_ble_eq_true rfl) e58 (fun _ => kC rfl k59) rfl (ct_J1_size C.glob w) (fun r0 h61 p62 x63 _ => ?_)
    obtain ⟨r60, rfl, w⟩ := p62
    have w := w x63
    change Gd _ _ _ _ (vI r60 :: [vI _])
    refine g_sub [none, some none, some none, some none, some none] [none, none] rfl rfl ?_
    exact wk_X0_pour_b37 C Rr N _ _ _ _ _ _ _ w
def wp_X0_pour (h : Hp) (x0 : Option Nat) (x1 : Int32) (x2 : Int32) (K : Int32 → Hp → Prop) : Prop :=
  (∃ a71, x0 = some a71 ∧ (wp_X0_map h x0 x1 (fun r74 h75 => Ex h h75 → (wp_X0_map h75 x0 x2 (fun r79 h80 => Ex h75 h80 → ((r74 = none → (wp_X0_pour_b44 K h80)) ∧ (∀ a84, r74 = some a84 → ((r79 = none → (wp_X0_pour_b44 K h80)) ∧ (∀ a86, r79 = some a86 → ((r74 = r79 → (wp_X0_pour_b44 K h80)) ∧ (¬ r74 = r79 → (wp_J1_size h80 r74 (fun r89 h90 => Ex h80 h90 → (wp_X0_pour_b32 K h90 x1 x2 r74 r79 r89))))))))))))))
set_option maxHeartbeats 4000000 in
theorem wk_X0_pour {X : Fx} {K : Int32 → Hp → Prop} (C : Cx X cX0_pour yX0_pour.cls 5 27) (Rr : Rx X (Option.some Jvm.ClassFile.FieldType.int) (pI K)) (N : Nm X yX0_pour.name) (h : Hp) (x0 : Option Nat) (x1 : Int32) (x2 : Int32) (w : wp_X0_pour h x0 x1 x2 K) : Gd X h 0 [some (vR [1] x0), some (vI x1), some (vI x2), none, none] [] := by
  unfold wp_X0_pour at w
  refine g_aload_n 1 rfl C dX0_pour_0 rfl ?_
  refine g_iload_n 2 rfl C dX0_pour_1 rfl ?_
  obtain ⟨a71, e72, w⟩ := w
  refine g_callV (As := [vI _]) (T := [1]) (st := []) "HashHall" 5 rfl C dX0_pour_2 q158 q160 qs0 q9 q161 rfl okn_a136fc (by decide) (by decide) (Nat.le_of_ble_eq_true rfl) e72 (fun q => tC rfl q) rfl (ct_X0_map C.glob w) (fun r0 h75 p76 x77 _ => ?_)
  obtain ⟨r74, rfl, w⟩ := p76
  have w := w x77
  change Gd _ _ _ _ (vR [2, 3] r74 :: [])
  refine g_astore_n 6 rfl C dX0_pour_5 (by decide) (rfl : _ = [some (vR [1] _), some (vI _), some (vI _), some (vR [2, 3] _), none]) ?_
  refine g_aload_n 7 rfl C dX0_pour_6 rfl ?_
  refine g_iload_n 8 rfl C dX0_pour_7 rfl ?_
  refine g_callV (As := [vI _]) (T := [1]) (st := []) "HashHall" 11 rfl C dX0_pour_8 q158 q160 qs0 q9 q161 rfl okn_a136fc (by decide) (by decide) (Nat.le_of_ble_eq_true rfl) e72 (fun q => tC rfl q) rfl (ct_X0_map C.glob w) (fun r0 h80 p81 x82 _ => ?_)
  obtain ⟨r79, rfl, w⟩ := p81
  have w := w x82
  change Gd _ _ _ _ (vR [2, 3] r79 :: [])
  refine g_astore 13 rfl C dX0_pour_11 (by decide) (rfl : _ = [some (vR [1] _), some (vI _), some (vI _), some (vR [2, 3] _), some (vR [2, 3] _)]) ?_
  refine g_aload_n 14 rfl C dX0_pour_13 rfl ?_
  refine g_ifnull 17 44 rfl C dX0_pour_14 rfl (fun u83 => ?_) (fun a84 u83 => ?_)
  · have w := w.1 u83
    refine g_sub [none, none, none, none, none] [] rfl rfl ?_
    exact wk_X0_pour_b44 C Rr N _ w
  · have w := w.2 a84 u83
    refine g_aload 19 rfl C dX0_pour_17 rfl ?_
    refine g_ifnull 22 44 rfl C dX0_pour_19 rfl (fun u85 => ?_) (fun a86 u85 => ?_)
    · have w := w.1 u85
      refine g_sub [none, none, none, none, none] [] rfl rfl ?_
      exact wk_X0_pour_b44 C Rr N _ w
    · have w := w.2 a86 u85
      refine g_aload_n 23 rfl C dX0_pour_22 rfl ?_
      refine g_aload 25 rfl C dX0_pour_23 rfl ?_
      refine g_acmp_eq 28 44 rfl C dX0_pour_25 rfl (fun u87 => ?_) (fun u87 => ?_)
      · have w := w.1 u87
        refine g_sub [none, none, none, none, none] [] rfl rfl ?_
        exact wk_X0_pour_b44 C Rr N _ w
      · have w := w.2 u87
        refine g_aload_n 29 rfl C dX0_pour_28 rfl ?_
        refine g_known 0 rfl u83 (fun k88 => ?_)
        have k88 : kd _ _ ∈ [2, 3] := k88
        simp only [List.mem_cons, List.not_mem_nil, or_false] at k88
        rcases k88 with k88 | k88
        · refine g_callU (As := []) (T := [2, 3]) (st := []) "java/util/HashMap" 32 rfl C dX0_pour_29 q598 q601 dcl_3acc5a q600 q599 q11 q603 okn_2c64e6 (by decide) (by decide) (Nat.le_of_ble_eq_true rfl) u83 (fun _ => kC rfl k88) rfl (ct_J1_size C.glob w) (fun r0 h90 p91 x92 _ => ?_)
          obtain ⟨r89, rfl, w⟩ := p91
          have w := w x92
          change Gd _ _ _ _ (vI r89 :: [])
          refine g_sub [none, some none, some none, some none, some none] [none] rfl rfl ?_
          exact wk_X0_pour_b32 C Rr N _ _ _ _ _ _ w
        · refine g_callU (As := []) (T := [2, 3]) (st := []) "java/util/LinkedHashMap" 32 rfl C dX0_pour_29 q598 q601 dcl_3acc5a q602 q599 q11 q603 okn_2c64e6 (by decide) (by decide) (Nat.le_of_ble_eq_true rfl) u83 (fun _ => kC rfl k88) rfl (ct_J1_size C.glob w) (fun r0 h90 p91 x92 _ => ?_)
          obtain ⟨r89, rfl, w⟩ := p91
          have w := w x92
          change Gd _ _ _ _ (vI r89 :: [])
          refine g_sub [none, some none, some none, some none, some none] [none] rfl rfl ?_
          exact wk_X0_pour_b32 C Rr N _ _ _ _ _ _ w
theorem ct_X0_pour {E : Gx} (GE : Glob E) {h : Hp} {x0 : Option Nat} {x1 : Int32} {x2 : Int32} {K : Int32 → Hp → Prop} (w : wp_X0_pour h x0 x1 x2 K) : Ct E yX0_pour cX0_pour 5 (Option.some Jvm.ClassFile.FieldType.int) 27 [vR [1] x0, vI x1, vI x2] h (pI K) :=
  Ct.of GE (by decide +kernel) (by simp [lvA, t2]) rfl (fun X hX C Rr N => wk_X0_pour C Rr N h x0 x1 x2 w)
