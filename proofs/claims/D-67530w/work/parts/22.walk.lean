/-! WALKS (printed by emit.py): J8_split J1_resize J1_newNode J8_init J1_replacementTreeNode J2_replacementTreeNode J1_treeifyBin J1_afterNodeAccess J1_afterNodeInsertion J2_linkNodeAtEnd J2_newNode J2_removeEldestEntry J2_afterNodeInsertion J1_newTreeNode J2_newTreeNode J8_putTreeVal -/
set_option maxRecDepth 100000
def wp_J8_split_b124 (G25 : Hp → Option Nat → Option Nat → Int32 → Int32 → Option Nat → Option Nat → Option Nat → Option Nat → Int32 → Int32 → Option Nat → Prop) (K : Hp → Prop) (h : Hp) (l1 : Option Nat) (l2 : Option Nat) (l3 : Int32) (l4 : Int32) (l6 : Option Nat) (l7 : Option Nat) (l8 : Option Nat) (l9 : Option Nat) (l10 : Int32) (l11 : Int32) (l13 : Option Nat) : Prop :=
  (G25 h l1 l2 l3 l4 l6 l7 l8 l9 l10 l11 l13)
set_option maxHeartbeats 4000000 in
theorem wk_J8_split_b124 {X : Fx} {K : Hp → Prop} (C : Cx X cJ8_split yJ8_split.cls 14 6) (Rr : Rx X (Option.none : Option Jvm.ClassFile.FieldType) (pV K)) (N : Nm X yJ8_split.name) {G25 : Hp → Option Nat → Option Nat → Int32 → Int32 → Option Nat → Option Nat → Option Nat → Option Nat → Int32 → Int32 → Option Nat → Prop} (k25 : ∀ (h : Hp) (l1 : Option Nat) (l2 : Option Nat) (l3 : Int32) (l4 : Int32) (l6 : Option Nat) (l7 : Option Nat) (l8 : Option Nat) (l9 : Option Nat) (l10 : Int32) (l11 : Int32) (l12 : Option Nat), G25 h l1 l2 l3 l4 l6 l7 l8 l9 l10 l11 l12 → Gd X h 25 [none, some (vR [2, 3] l1), some (vR [51] l2), some (vI l3), some (vI l4), none, some (vR [7] l6), some (vR [7] l7), some (vR [7] l8), some (vR [7] l9), some (vI l10), some (vI l11), some (vR [7] l12), none] []) (h : Hp) (l1 : Option Nat) (l2 : Option Nat) (l3 : Int32) (l4 : Int32) (l6 : Option Nat) (l7 : Option Nat) (l8 : Option Nat) (l9 : Option Nat) (l10 : Int32) (l11 : Int32) (l13 : Option Nat) (w : wp_J8_split_b124 G25 K h l1 l2 l3 l4 l6 l7 l8 l9 l10 l11 l13) : Gd X h 124 [none, some (vR [2, 3] l1), some (vR [51] l2), some (vI l3), some (vI l4), none, some (vR [7] l6), some (vR [7] l7), some (vR [7] l8), some (vR [7] l9), some (vI l10), some (vI l11), none, some (vR [7] l13)] [] := by
  unfold wp_J8_split_b124 at w
  refine g_aload 126 rfl C dJ8_split_124 rfl ?_
  refine g_astore 128 rfl C dJ8_split_126 (by decide) (rfl : _ = [none, some (vR [2, 3] _), some (vR [51] _), some (vI _), some (vI _), none, some (vR [7] _), some (vR [7] _), some (vR [7] _), some (vR [7] _), some (vI _), some (vI _), some (vR [7] _), some (vR [7] _)]) ?_
  refine g_goto 25 C dJ8_split_128 rfl ?_
  refine g_sub [none, some none, some none, some none, some none, none, some none, some none, some none, some none, some none, some none, some none, none] [] rfl rfl ?_
  exact k25 _ _ _ _ _ _ _ _ _ _ _ _ w
def wp_J8_split_b82 (G25 : Hp → Option Nat → Option Nat → Int32 → Int32 → Option Nat → Option Nat → Option Nat → Option Nat → Int32 → Int32 → Option Nat → Prop) (K : Hp → Prop) (h : Hp) (l1 : Option Nat) (l2 : Option Nat) (l3 : Int32) (l4 : Int32) (l6 : Option Nat) (l8 : Option Nat) (l9 : Option Nat) (l10 : Int32) (l11 : Int32) (l12 : Option Nat) (l13 : Option Nat) : Prop :=
  (wp_J8_split_b124 G25 K h l1 l2 l3 l4 l6 l12 l8 l9 (l10 + 1) l11 l13)
set_option maxHeartbeats 4000000 in
theorem wk_J8_split_b82 {X : Fx} {K : Hp → Prop} (C : Cx X cJ8_split yJ8_split.cls 14 6) (Rr : Rx X (Option.none : Option Jvm.ClassFile.FieldType) (pV K)) (N : Nm X yJ8_split.name) {G25 : Hp → Option Nat → Option Nat → Int32 → Int32 → Option Nat → Option Nat → Option Nat → Option Nat → Int32 → Int32 → Option Nat → Prop} (k25 : ∀ (h : Hp) (l1 : Option Nat) (l2 : Option Nat) (l3 : Int32) (l4 : Int32) (l6 : Option Nat) (l7 : Option Nat) (l8 : Option Nat) (l9 : Option Nat) (l10 : Int32) (l11 : Int32) (l12 : Option Nat), G25 h l1 l2 l3 l4 l6 l7 l8 l9 l10 l11 l12 → Gd X h 25 [none, some (vR [2, 3] l1), some (vR [51] l2), some (vI l3), some (vI l4), none, some (vR [7] l6), some (vR [7] l7), some (vR [7] l8), some (vR [7] l9), some (vI l10), some (vI l11), some (vR [7] l12), none] []) (h : Hp) (l1 : Option Nat) (l2 : Option Nat) (l3 : Int32) (l4 : Int32) (l6 : Option Nat) (l8 : Option Nat) (l9 : Option Nat) (l10 : Int32) (l11 : Int32) (l12 : Option Nat) (l13 : Option Nat) (w : wp_J8_split_b82 G25 K h l1 l2 l3 l4 l6 l8 l9 l10 l11 l12 l13) : Gd X h 82 [none, some (vR [2, 3] l1), some (vR [51] l2), some (vI l3), some (vI l4), none, some (vR [7] l6), none, some (vR [7] l8), some (vR [7] l9), some (vI l10), some (vI l11), some (vR [7] l12), some (vR [7] l13)] [] := by
  unfold wp_J8_split_b82 at w
  refine g_aload 84 rfl C dJ8_split_82 rfl ?_
  refine g_astore 86 rfl C dJ8_split_84 (by decide) (rfl : _ = [none, some (vR [2, 3] _), some (vR [51] _), some (vI _), some (vI _), none, some (vR [7] _), some (vR [7] _), some (vR [7] _), some (vR [7] _), some (vI _), some (vI _), some (vR [7] _), some (vR [7] _)]) ?_
  refine g_iinc 89 rfl C dJ8_split_86 rfl _ rfl (by decide) (rfl : _ = [none, some (vR [2, 3] _), some (vR [51] _), some (vI _), some (vI _), none, some (vR [7] _), some (vR [7] _), some (vR [7] _), some (vR [7] _), some (vI _), some (vI _), some (vR [7] _), some (vR [7] _)]) ?_
  refine g_goto 124 C dJ8_split_89 rfl ?_
  refine g_sub [none, some none, some none, some none, some none, none, some none, some none, some none, some none, some none, some none, none, some none] [] rfl rfl ?_
  exact wk_J8_split_b124 C Rr N k25 _ _ _ _ _ _ _ _ _ _ _ _ w
def wp_J8_split_b117 (G25 : Hp → Option Nat → Option Nat → Int32 → Int32 → Option Nat → Option Nat → Option Nat → Option Nat → Int32 → Int32 → Option Nat → Prop) (K : Hp → Prop) (h : Hp) (l1 : Option Nat) (l2 : Option Nat) (l3 : Int32) (l4 : Int32) (l6 : Option Nat) (l7 : Option Nat) (l8 : Option Nat) (l10 : Int32) (l11 : Int32) (l12 : Option Nat) (l13 : Option Nat) : Prop :=
  (wp_J8_split_b124 G25 K h l1 l2 l3 l4 l6 l7 l8 l12 l10 (l11 + 1) l13)
set_option maxHeartbeats 4000000 in
theorem wk_J8_split_b117 {X : Fx} {K : Hp → Prop} (C : Cx X cJ8_split yJ8_split.cls 14 6) (Rr : Rx X (Option.none : Option Jvm.ClassFile.FieldType) (pV K)) (N : Nm X yJ8_split.name) {G25 : Hp → Option Nat → Option Nat → Int32 → Int32 → Option Nat → Option Nat → Option Nat → Option Nat → Int32 → Int32 → Option Nat → Prop} (k25 : ∀ (h : Hp) (l1 : Option Nat) (l2 : Option Nat) (l3 : Int32) (l4 : Int32) (l6 : Option Nat) (l7 : Option Nat) (l8 : Option Nat) (l9 : Option Nat) (l10 : Int32) (l11 : Int32) (l12 : Option Nat), G25 h l1 l2 l3 l4 l6 l7 l8 l9 l10 l11 l12 → Gd X h 25 [none, some (vR [2, 3] l1), some (vR [51] l2), some (vI l3), some (vI l4), none, some (vR [7] l6), some (vR [7] l7), some (vR [7] l8), some (vR [7] l9), some (vI l10), some (vI l11), some (vR [7] l12), none] []) (h : Hp) (l1 : Option Nat) (l2 : Option Nat) (l3 : Int32) (l4 : Int32) (l6 : Option Nat) (l7 : Option Nat) (l8 : Option Nat) (l10 : Int32) (l11 : Int32) (l12 : Option Nat) (l13 : Option Nat) (w : wp_J8_split_b117 G25 K h l1 l2 l3 l4 l6 l7 l8 l10 l11 l12 l13) : Gd X h 117 [none, some (vR [2, 3] l1), some (vR [51] l2), some (vI l3), some (vI l4), none, some (vR [7] l6), some (vR [7] l7), some (vR [7] l8), none, some (vI l10), some (vI l11), some (vR [7] l12), some (vR [7] l13)] [] := by
  unfold wp_J8_split_b117 at w
  refine g_aload 119 rfl C dJ8_split_117 rfl ?_
  refine g_astore 121 rfl C dJ8_split_119 (by decide) (rfl : _ = [none, some (vR [2, 3] _), some (vR [51] _), some (vI _), some (vI _), none, some (vR [7] _), some (vR [7] _), some (vR [7] _), some (vR [7] _), some (vI _), some (vI _), some (vR [7] _), some (vR [7] _)]) ?_
  refine g_iinc 124 rfl C dJ8_split_121 rfl _ rfl (by decide) (rfl : _ = [none, some (vR [2, 3] _), some (vR [51] _), some (vI _), some (vI _), none, some (vR [7] _), some (vR [7] _), some (vR [7] _), some (vR [7] _), some (vI _), some (vI _), some (vR [7] _), some (vR [7] _)]) ?_
  refine g_sub [none, some none, some none, some none, some none, none, some none, some none, some none, some none, some none, some none, none, some none] [] rfl rfl ?_
  exact wk_J8_split_b124 C Rr N k25 _ _ _ _ _ _ _ _ _ _ _ _ w
def wp_J8_split_b217 (K : Hp → Prop) (h : Hp)  : Prop :=
  (K h)
set_option maxHeartbeats 4000000 in
theorem wk_J8_split_b217 {X : Fx} {K : Hp → Prop} (C : Cx X cJ8_split yJ8_split.cls 14 6) (Rr : Rx X (Option.none : Option Jvm.ClassFile.FieldType) (pV K)) (N : Nm X yJ8_split.name) (h : Hp)  (w : wp_J8_split_b217 K h ) : Gd X h 217 [none, none, none, none, none, none, none, none, none, none, none, none, none, none] [] := by
  unfold wp_J8_split_b217 at w
  exact g_vreturn C Rr dJ8_split_217 ⟨rfl, w⟩
def wp_J8_split_b171 (K : Hp → Prop) (h : Hp) (l1 : Option Nat) (l2 : Option Nat) (l3 : Int32) (l4 : Int32) (l6 : Option Nat) (l8 : Option Nat) (l11 : Int32) : Prop :=
  ((l8 = none → (wp_J8_split_b217 K h)) ∧ (∀ a183, l8 = some a183 → ((6 < l11 → (∃ a185, l2 = some a185 ∧ (∃ j187, (l3 + l4) = nI j187 ∧ j187 < ln h a185 ∧ ∀ h190, h190 = wR h (100 + j187) a185 l8 → ((l6 = none → (wp_J8_split_b217 K h190)) ∧ (∀ a192, l6 = some a192 → (wp_J8_treeify h190 l8 l2 (fun h195 => Ex h190 h195 → (wp_J8_split_b217 K h195)))))))) ∧ (¬ 6 < l11 → (wp_J8_untreeify h l8 l1 (fun r199 h200 => Ex h h200 → (∃ a203, l2 = some a203 ∧ (∃ j205, (l3 + l4) = nI j205 ∧ j205 < ln h200 a203 ∧ ∀ h208, h208 = wR h200 (100 + j205) a203 r199 → (wp_J8_split_b217 K h208)))))))))
set_option maxHeartbeats 4000000 in
theorem wk_J8_split_b171 {X : Fx} {K : Hp → Prop} (C : Cx X cJ8_split yJ8_split.cls 14 6) (Rr : Rx X (Option.none : Option Jvm.ClassFile.FieldType) (pV K)) (N : Nm X yJ8_split.name) (h : Hp) (l1 : Option Nat) (l2 : Option Nat) (l3 : Int32) (l4 : Int32) (l6 : Option Nat) (l8 : Option Nat) (l11 : Int32) (w : wp_J8_split_b171 K h l1 l2 l3 l4 l6 l8 l11) : Gd X h 171 [none, some (vR [2, 3] l1), some (vR [51] l2), some (vI l3), some (vI l4), none, some (vR [7] l6), none, some (vR [7] l8), none, none, some (vI l11), none, none] [] := by
  unfold wp_J8_split_b171 at w
  refine g_aload 173 rfl C dJ8_split_171 rfl ?_
  refine g_ifnull 176 217 rfl C dJ8_split_173 rfl (fun u182 => ?_) (fun a183 u182 => ?_)
  · have w := w.1 u182
    refine g_sub [none, none, none, none, none, none, none, none, none, none, none, none, none, none] [] rfl rfl ?_
    exact wk_J8_split_b217 C Rr N _ w
  · have w := w.2 a183 u182
    refine g_iload 178 rfl C dJ8_split_176 rfl ?_
    refine g_bipush 180 rfl C dJ8_split_178 6 (by decide) ?_
    refine g_icmp_gt 183 198 rfl C dJ8_split_180 rfl (fun u184 => ?_) (fun u184 => ?_)
    · have w := w.1 u184
      refine g_aload_n 199 rfl C dJ8_split_198 rfl ?_
      refine g_iload_n 200 rfl C dJ8_split_199 rfl ?_
      refine g_iload 202 rfl C dJ8_split_200 rfl ?_
      refine g_iadd 203 rfl C dJ8_split_202 ?_
      refine g_aload 205 rfl C dJ8_split_203 rfl ?_
      obtain ⟨a185, e186, w⟩ := w
      obtain ⟨j187, e188, e189, w⟩ := w
      refine g_aastore 51 206 rfl C dJ8_split_205 (by decide) rfl e186 e188 e189 ?_
      have w := w _ rfl
      refine g_aload 208 rfl C dJ8_split_206 rfl ?_
      refine g_ifnull 211 217 rfl C dJ8_split_208 rfl (fun u191 => ?_) (fun a192 u191 => ?_)
      · have w := w.1 u191
        refine g_sub [none, none, none, none, none, none, none, none, none, none, none, none, none, none] [] rfl rfl ?_
        exact wk_J8_split_b217 C Rr N _ w
      · have w := w.2 a192 u191
        refine g_aload 213 rfl C dJ8_split_211 rfl ?_
        refine g_aload_n 214 rfl C dJ8_split_213 rfl ?_
        refine g_callV (As := [vR [51] _]) (T := [7]) (st := []) "java/util/HashMap$TreeNode" 217 rfl C dJ8_split_214 q306 q307 q308 q21 q309 rfl okn_e8f23f (by decide) (by decide) (Nat.le_of_ble_eq_true rfl) u182 (fun q => tC rfl q) rfl (ct_J8_treeify C.glob w) (fun r0 h195 p196 x197 _ => ?_)
        obtain ⟨rfl, w⟩ := p196
        have w := w x197
        change Gd _ _ _ _ []
        refine g_sub [none, none, none, none, none, none, none, none, none, none, none, none, none, none] [] rfl rfl ?_
        exact wk_J8_split_b217 C Rr N _ w
    · have w := w.2 u184
      refine g_aload_n 184 rfl C dJ8_split_183 rfl ?_
      refine g_iload_n 185 rfl C dJ8_split_184 rfl ?_
      refine g_iload 187 rfl C dJ8_split_185 rfl ?_
      refine g_iadd 188 rfl C dJ8_split_187 ?_
      refine g_aload 190 rfl C dJ8_split_188 rfl ?_
      refine g_aload_n 191 rfl C dJ8_split_190 rfl ?_
      refine g_callV (As := [vR [2, 3] _]) (T := [7]) (st := [vI _, vR [51] _]) "java/util/HashMap$TreeNode" 194 rfl C dJ8_split_191 q228 q229 q230 q21 q231 rfl okn_21073d (by decide) (by decide) (Nat.le_of_ble_eq_true rfl) u182 (fun q => tC rfl q) rfl (ct_J8_untreeify C.glob w) (fun r0 h200 p201 x202 _ => ?_)
      obtain ⟨r199, rfl, w⟩ := p201
      have w := w x202
      change Gd _ _ _ _ (vR [5, 6, 7] r199 :: [vI _, vR [51] _])
      obtain ⟨a203, e204, w⟩ := w
      obtain ⟨j205, e206, e207, w⟩ := w
      refine g_aastore 51 195 rfl C dJ8_split_194 (by decide) rfl e204 e206 e207 ?_
      have w := w _ rfl
      refine g_goto 217 C dJ8_split_195 rfl ?_
      refine g_sub [none, none, none, none, none, none, none, none, none, none, none, none, none, none] [] rfl rfl ?_
      exact wk_J8_split_b217 C Rr N _ w
def wp_J8_split_b25 (K : Hp → Prop) : Nat → Hp → Option Nat → Option Nat → Int32 → Int32 → Option Nat → Option Nat → Option Nat → Option Nat → Int32 → Int32 → Option Nat → Prop
  | 0 => fun _ _ _ _ _ _ _ _ _ _ _ _ => False
  | m9 + 1 => fun h l1 l2 l3 l4 l6 l7 l8 l9 l10 l11 l12 =>
    ((l12 = none → ((l6 = none → (wp_J8_split_b171 K h l1 l2 l3 l4 l6 l8 l11)) ∧ (∀ a212, l6 = some a212 → ((6 < l10 → (∃ a214, l2 = some a214 ∧ (∃ j216, l3 = nI j216 ∧ j216 < ln h a214 ∧ ∀ h219, h219 = wR h (100 + j216) a214 l6 → ((l8 = none → (wp_J8_split_b171 K h219 l1 l2 l3 l4 l6 l8 l11)) ∧ (∀ a221, l8 = some a221 → (wp_J8_treeify h219 l6 l2 (fun h224 => Ex h219 h224 → (wp_J8_split_b171 K h224 l1 l2 l3 l4 l6 l8 l11)))))))) ∧ (¬ 6 < l10 → (wp_J8_untreeify h l6 l1 (fun r228 h229 => Ex h h229 → (∃ a232, l2 = some a232 ∧ (∃ j234, l3 = nI j234 ∧ j234 < ln h229 a232 ∧ ∀ h237, h237 = wR h229 (100 + j234) a232 r228 → (wp_J8_split_b171 K h237 l1 l2 l3 l4 l6 l8 l11)))))))))) ∧ (∀ a210, l12 = some a210 → ((∀ a, (rf h 3 a210) = some a → kd h a ∈ [7]) ∧ (∀ h239, h239 = wR h 3 a210 none → ((¬ ((it h239 0 a210) &&& l4) = 0 → (∀ h241, h241 = wR h239 9 a210 l9 → ((l9 = none → (wp_J8_split_b117 (wp_J8_split_b25 K m9) K h241 l1 l2 l3 l4 l6 l7 l12 l10 l11 l12 (rf h 3 a210))) ∧ (∀ a243, l9 = some a243 → (∀ h244, h244 = wR h241 3 a243 l12 → (wp_J8_split_b117 (wp_J8_split_b25 K m9) K h244 l1 l2 l3 l4 l6 l7 l8 l10 l11 l12 (rf h 3 a210))))))) ∧ (((it h239 0 a210) &&& l4) = 0 → (∀ h245, h245 = wR h239 9 a210 l7 → ((l7 = none → (wp_J8_split_b82 (wp_J8_split_b25 K m9) K h245 l1 l2 l3 l4 l12 l8 l9 l10 l11 l12 (rf h 3 a210))) ∧ (∀ a247, l7 = some a247 → (∀ h248, h248 = wR h245 3 a247 l12 → (wp_J8_split_b82 (wp_J8_split_b25 K m9) K h248 l1 l2 l3 l4 l6 l8 l9 l10 l11 l12 (rf h 3 a210))))))))))))
set_option maxHeartbeats 4000000 in
theorem wk_J8_split_b25 {X : Fx} {K : Hp → Prop} (C : Cx X cJ8_split yJ8_split.cls 14 6) (Rr : Rx X (Option.none : Option Jvm.ClassFile.FieldType) (pV K)) (N : Nm X yJ8_split.name) : ∀ (n : Nat) (h : Hp) (l1 : Option Nat) (l2 : Option Nat) (l3 : Int32) (l4 : Int32) (l6 : Option Nat) (l7 : Option Nat) (l8 : Option Nat) (l9 : Option Nat) (l10 : Int32) (l11 : Int32) (l12 : Option Nat), wp_J8_split_b25 K n h l1 l2 l3 l4 l6 l7 l8 l9 l10 l11 l12 → Gd X h 25 [none, some (vR [2, 3] l1), some (vR [51] l2), some (vI l3), some (vI l4), none, some (vR [7] l6), some (vR [7] l7), some (vR [7] l8), some (vR [7] l9), some (vI l10), some (vI l11), some (vR [7] l12), none] [] := by
  intro n
  induction n with
  | zero => intro h l1 l2 l3 l4 l6 l7 l8 l9 l10 l11 l12 w; exact w.elim
  | succ n ih =>
    intro h l1 l2 l3 l4 l6 l7 l8 l9 l10 l11 l12 w
    unfold wp_J8_split_b25 at w
    refine g_aload 27 rfl C dJ8_split_25 rfl ?_
    refine g_ifnull 30 131 rfl C dJ8_split_27 rfl (fun u209 => ?_) (fun a210 u209 => ?_)
    · have w := w.1 u209
      refine g_aload 133 rfl C dJ8_split_131 rfl ?_
      refine g_ifnull 136 171 rfl C dJ8_split_133 rfl (fun u211 => ?_) (fun a212 u211 => ?_)
      · have w := w.1 u211
        refine g_sub [none, some none, some none, some none, some none, none, some none, none, some none, none, none, some none, none, none] [] rfl rfl ?_
        exact wk_J8_split_b171 C Rr N _ _ _ _ _ _ _ _ w
      · have w := w.2 a212 u211
        refine g_iload 138 rfl C dJ8_split_136 rfl ?_
        refine g_bipush 140 rfl C dJ8_split_138 6 (by decide) ?_
        refine g_icmp_gt 143 155 rfl C dJ8_split_140 rfl (fun u213 => ?_) (fun u213 => ?_)
        · have w := w.1 u213
          refine g_aload_n 156 rfl C dJ8_split_155 rfl ?_
          refine g_iload_n 157 rfl C dJ8_split_156 rfl ?_
          refine g_aload 159 rfl C dJ8_split_157 rfl ?_
          obtain ⟨a214, e215, w⟩ := w
          obtain ⟨j216, e217, e218, w⟩ := w
          refine g_aastore 51 160 rfl C dJ8_split_159 (by decide) rfl e215 e217 e218 ?_
          have w := w _ rfl
          refine g_aload 162 rfl C dJ8_split_160 rfl ?_
          refine g_ifnull 165 171 rfl C dJ8_split_162 rfl (fun u220 => ?_) (fun a221 u220 => ?_)
          · have w := w.1 u220
            refine g_sub [none, some none, some none, some none, some none, none, some none, none, some none, none, none, some none, none, none] [] rfl rfl ?_
            exact wk_J8_split_b171 C Rr N _ _ _ _ _ _ _ _ w
          · have w := w.2 a221 u220
            refine g_aload 167 rfl C dJ8_split_165 rfl ?_
            refine g_aload_n 168 rfl C dJ8_split_167 rfl ?_
            refine g_callV (As := [vR [51] _]) (T := [7]) (st := []) "java/util/HashMap$TreeNode" 171 rfl C dJ8_split_168 q306 q307 q308 q21 q309 rfl okn_e8f23f (by decide) (by decide) (Nat.le_of_ble_eq_true rfl) u211 (fun q => tC rfl q) rfl (ct_J8_treeify C.glob w) (fun r0 h224 p225 x226 _ => ?_)
            obtain ⟨rfl, w⟩ := p225
            have w := w x226
            change Gd _ _ _ _ []
            refine g_sub [none, some none, some none, some none, some none, none, some none, none, some none, none, none, some none, none, none] [] rfl rfl ?_
            exact wk_J8_split_b171 C Rr N _ _ _ _ _ _ _ _ w
        · have w := w.2 u213
          refine g_aload_n 144 rfl C dJ8_split_143 rfl ?_
          refine g_iload_n 145 rfl C dJ8_split_144 rfl ?_
          refine g_aload 147 rfl C dJ8_split_145 rfl ?_
          refine g_aload_n 148 rfl C dJ8_split_147 rfl ?_
          refine g_callV (As := [vR [2, 3] _]) (T := [7]) (st := [vI _, vR [51] _]) "java/util/HashMap$TreeNode" 151 rfl C dJ8_split_148 q228 q229 q230 q21 q231 rfl okn_21073d (by decide) (by decide) (Nat.le_of_ble_eq_true rfl) u211 (fun q => tC rfl q) rfl (ct_J8_untreeify C.glob w) (fun r0 h229 p230 x231 _ => ?_)
          obtain ⟨r228, rfl, w⟩ := p230
          have w := w x231
          change Gd _ _ _ _ (vR [5, 6, 7] r228 :: [vI _, vR [51] _])
          obtain ⟨a232, e233, w⟩ := w
          obtain ⟨j234, e235, e236, w⟩ := w
          refine g_aastore 51 152 rfl C dJ8_split_151 (by decide) rfl e233 e235 e236 ?_
          have w := w _ rfl
          refine g_goto 171 C dJ8_split_152 rfl ?_
          refine g_sub [none, some none, some none, some none, some none, none, some none, none, some none, none, none, some none, none, none] [] rfl rfl ?_
          exact wk_J8_split_b171 C Rr N _ _ _ _ _ _ _ _ w
    · have w := w.2 a210 u209
      refine g_aload 32 rfl C dJ8_split_30 rfl ?_
      refine g_getR 35 rfl C dJ8_split_32 fl_HashMap_TreeNode_22 rfl u209 rfl ?_
      obtain ⟨k238, w⟩ := w
      refine g_cast [7] 38 rfl C dJ8_split_35 q227 co_HashMap_TreeNode_7 (fun a q _ => k238 a q) ?_
      refine g_astore 40 rfl C dJ8_split_38 (by decide) (rfl : _ = [none, some (vR [2, 3] _), some (vR [51] _), some (vI _), some (vI _), none, some (vR [7] _), some (vR [7] _), some (vR [7] _), some (vR [7] _), some (vI _), some (vI _), some (vR [7] _), some (vR [7] _)]) ?_
      refine g_aload 42 rfl C dJ8_split_40 rfl ?_
      refine g_null 43 rfl C dJ8_split_42 ?_
      refine g_putR 46 rfl C dJ8_split_43 fl_HashMap_TreeNode_22 rfl rfl rfl u209 rfl ?_
      have w := w _ rfl
      refine g_aload 48 rfl C dJ8_split_46 rfl ?_
      refine g_getI 51 rfl C dJ8_split_48 fl_HashMap_TreeNode_15 rfl u209 rfl ?_
      refine g_iload 53 rfl C dJ8_split_51 rfl ?_
      refine g_iand 54 rfl C dJ8_split_53 ?_
      refine g_if_ne 57 92 rfl C dJ8_split_54 rfl (fun u240 => ?_) (fun u240 => ?_)
      · have w := w.1 u240
        refine g_aload 94 rfl C dJ8_split_92 rfl ?_
        refine g_aload 96 rfl C dJ8_split_94 rfl ?_
        refine g_dup_x1 97 rfl C dJ8_split_96 rfl rfl ?_
        refine g_putR 100 rfl C dJ8_split_97 fl_HashMap_TreeNode_19 rfl rfl rfl u209 rfl ?_
        have w := w _ rfl
        refine g_ifnonnull 103 110 rfl C dJ8_split_100 rfl (fun a243 u242 => ?_) (fun u242 => ?_)
        · have w := w.2 a243 u242
          refine g_aload 112 rfl C dJ8_split_110 rfl ?_
          refine g_aload 114 rfl C dJ8_split_112 rfl ?_
          refine g_putR 117 rfl C dJ8_split_114 fl_HashMap_TreeNode_22 rfl rfl rfl u242 rfl ?_
          have w := w _ rfl
          refine g_sub [none, some none, some none, some none, some none, none, some none, some none, some none, none, some none, some none, some none, some none] [] rfl rfl ?_
          exact wk_J8_split_b117 C Rr N ih _ _ _ _ _ _ _ _ _ _ _ _ w
        · have w := w.1 u242
          refine g_aload 105 rfl C dJ8_split_103 rfl ?_
          refine g_astore 107 rfl C dJ8_split_105 (by decide) (rfl : _ = [none, some (vR [2, 3] _), some (vR [51] _), some (vI _), some (vI _), none, some (vR [7] _), some (vR [7] _), some (vR [7] _), some (vR [7] _), some (vI _), some (vI _), some (vR [7] _), some (vR [7] _)]) ?_
          refine g_goto 117 C dJ8_split_107 rfl ?_
          refine g_sub [none, some none, some none, some none, some none, none, some none, some none, some none, none, some none, some none, some none, some none] [] rfl rfl ?_
          exact wk_J8_split_b117 C Rr N ih _ _ _ _ _ _ _ _ _ _ _ _ w
      · have w := w.2 u240
        refine g_aload 59 rfl C dJ8_split_57 rfl ?_
        refine g_aload 61 rfl C dJ8_split_59 rfl ?_
        refine g_dup_x1 62 rfl C dJ8_split_61 rfl rfl ?_
        refine g_putR 65 rfl C dJ8_split_62 fl_HashMap_TreeNode_19 rfl rfl rfl u209 rfl ?_
        have w := w _ rfl
        refine g_ifnonnull 68 75 rfl C dJ8_split_65 rfl (fun a247 u246 => ?_) (fun u246 => ?_)
        · have w := w.2 a247 u246
          refine g_aload 77 rfl C dJ8_split_75 rfl ?_
          refine g_aload 79 rfl C dJ8_split_77 rfl ?_
          refine g_putR 82 rfl C dJ8_split_79 fl_HashMap_TreeNode_22 rfl rfl rfl u246 rfl ?_
          have w := w _ rfl
          refine g_sub [none, some none, some none, some none, some none, none, some none, none, some none, some none, some none, some none, some none, some none] [] rfl rfl ?_
          exact wk_J8_split_b82 C Rr N ih _ _ _ _ _ _ _ _ _ _ _ _ w
        · have w := w.1 u246
          refine g_aload 70 rfl C dJ8_split_68 rfl ?_
          refine g_astore 72 rfl C dJ8_split_70 (by decide) (rfl : _ = [none, some (vR [2, 3] _), some (vR [51] _), some (vI _), some (vI _), none, some (vR [7] _), some (vR [7] _), some (vR [7] _), some (vR [7] _), some (vI _), some (vI _), some (vR [7] _), some (vR [7] _)]) ?_
          refine g_goto 82 C dJ8_split_72 rfl ?_
          refine g_sub [none, some none, some none, some none, some none, none, some none, none, some none, some none, some none, some none, some none, some none] [] rfl rfl ?_
          exact wk_J8_split_b82 C Rr N ih _ _ _ _ _ _ _ _ _ _ _ _ w
def wp_J8_split (h : Hp) (x0 : Option Nat) (x1 : Option Nat) (x2 : Option Nat) (x3 : Int32) (x4 : Int32) (K : Hp → Prop) : Prop :=
  (∃ n, wp_J8_split_b25 K n h x1 x2 x3 x4 none none none none 0 0 x0)
set_option maxHeartbeats 4000000 in
theorem wk_J8_split {X : Fx} {K : Hp → Prop} (C : Cx X cJ8_split yJ8_split.cls 14 6) (Rr : Rx X (Option.none : Option Jvm.ClassFile.FieldType) (pV K)) (N : Nm X yJ8_split.name) (h : Hp) (x0 : Option Nat) (x1 : Option Nat) (x2 : Option Nat) (x3 : Int32) (x4 : Int32) (w : wp_J8_split h x0 x1 x2 x3 x4 K) : Gd X h 0 [some (vR [7] x0), some (vR [2, 3] x1), some (vR [51] x2), some (vI x3), some (vI x4), none, none, none, none, none, none, none, none, none] [] := by
  unfold wp_J8_split at w
  refine g_aload_n 1 rfl C dJ8_split_0 rfl ?_
  refine g_astore 3 rfl C dJ8_split_1 (by decide) (rfl : _ = [some (vR [7] _), some (vR [2, 3] _), some (vR [51] _), some (vI _), some (vI _), some (vR [7] _), none, none, none, none, none, none, none, none]) ?_
  refine g_null 4 rfl C dJ8_split_3 ?_
  refine g_astore 6 rfl C dJ8_split_4 (by decide) (rfl : _ = [some (vR [7] _), some (vR [2, 3] _), some (vR [51] _), some (vI _), some (vI _), some (vR [7] _), some (vR [] _), none, none, none, none, none, none, none]) ?_
  refine g_null 7 rfl C dJ8_split_6 ?_
  refine g_astore 9 rfl C dJ8_split_7 (by decide) (rfl : _ = [some (vR [7] _), some (vR [2, 3] _), some (vR [51] _), some (vI _), some (vI _), some (vR [7] _), some (vR [] _), some (vR [] _), none, none, none, none, none, none]) ?_
  refine g_null 10 rfl C dJ8_split_9 ?_
  refine g_astore 12 rfl C dJ8_split_10 (by decide) (rfl : _ = [some (vR [7] _), some (vR [2, 3] _), some (vR [51] _), some (vI _), some (vI _), some (vR [7] _), some (vR [] _), some (vR [] _), some (vR [] _), none, none, none, none, none]) ?_
  refine g_null 13 rfl C dJ8_split_12 ?_
  refine g_astore 15 rfl C dJ8_split_13 (by decide) (rfl : _ = [some (vR [7] _), some (vR [2, 3] _), some (vR [51] _), some (vI _), some (vI _), some (vR [7] _), some (vR [] _), some (vR [] _), some (vR [] _), some (vR [] _), none, none, none, none]) ?_
  refine g_iconst 16 rfl C dJ8_split_15 0 rfl ?_
  refine g_istore 18 rfl C dJ8_split_16 (by decide) (rfl : _ = [some (vR [7] _), some (vR [2, 3] _), some (vR [51] _), some (vI _), some (vI _), some (vR [7] _), some (vR [] _), some (vR [] _), some (vR [] _), some (vR [] _), some (vI _), none, none, none]) ?_
  refine g_iconst 19 rfl C dJ8_split_18 0 rfl ?_
  refine g_istore 21 rfl C dJ8_split_19 (by decide) (rfl : _ = [some (vR [7] _), some (vR [2, 3] _), some (vR [51] _), some (vI _), some (vI _), some (vR [7] _), some (vR [] _), some (vR [] _), some (vR [] _), some (vR [] _), some (vI _), some (vI _), none, none]) ?_
  refine g_aload 23 rfl C dJ8_split_21 rfl ?_
  refine g_astore 25 rfl C dJ8_split_23 (by decide) (rfl : _ = [some (vR [7] _), some (vR [2, 3] _), some (vR [51] _), some (vI _), some (vI _), some (vR [7] _), some (vR [] _), some (vR [] _), some (vR [] _), some (vR [] _), some (vI _), some (vI _), some (vR [7] _), none]) ?_
  refine g_sub [none, some none, some none, some none, some none, none, some (some [7]), some (some [7]), some (some [7]), some (some [7]), some none, some none, some none, none] [] rfl rfl ?_
  obtain ⟨n9, w⟩ := w
  exact wk_J8_split_b25 C Rr N n9 _ _ _ _ _ _ _ _ _ _ _ _ w
theorem ct_J8_split {E : Gx} (GE : Glob E) {h : Hp} {x0 : Option Nat} {x1 : Option Nat} {x2 : Option Nat} {x3 : Int32} {x4 : Int32} {K : Hp → Prop} (w : wp_J8_split h x0 x1 x2 x3 x4 K) : Ct E yJ8_split cJ8_split 14 (Option.none : Option Jvm.ClassFile.FieldType) 6 [vR [7] x0, vR [2, 3] x1, vR [51] x2, vI x3, vI x4] h (pV K) :=
  Ct.of GE (by decide +kernel) (by simp [lvA, t2]) rfl (fun X hX C Rr N => wk_J8_split C Rr N h x0 x1 x2 x3 x4 w)
def wp_J1_resize_b347 (G151 : Hp → Option Nat → Option Nat → Int32 → Int32 → Option Nat → Int32 → Prop) (K : Option Nat → Hp → Prop) (h : Hp) (l0 : Option Nat) (l1 : Option Nat) (l2 : Int32) (l4 : Int32) (l6 : Option Nat) (l7 : Int32) : Prop :=
  (G151 h l0 l1 l2 l4 l6 (l7 + 1))
set_option maxHeartbeats 4000000 in
theorem wk_J1_resize_b347 {X : Fx} {K : Option Nat → Hp → Prop} (C : Cx X cJ1_resize yJ1_resize.cls 14 7) (Rr : Rx X (Option.some (Jvm.ClassFile.FieldType.array (Jvm.ClassFile.FieldType.object "java/util/HashMap$Node"))) (pR [51] K)) (N : Nm X yJ1_resize.name) {G151 : Hp → Option Nat → Option Nat → Int32 → Int32 → Option Nat → Int32 → Prop} (k151 : ∀ (h : Hp) (l0 : Option Nat) (l1 : Option Nat) (l2 : Int32) (l4 : Int32) (l6 : Option Nat) (l7 : Int32), G151 h l0 l1 l2 l4 l6 l7 → Gd X h 151 [some (vR [2, 3] l0), some (vR [51] l1), some (vI l2), none, some (vI l4), none, some (vR [51] l6), some (vI l7), none, none, none, none, none, none] []) (h : Hp) (l0 : Option Nat) (l1 : Option Nat) (l2 : Int32) (l4 : Int32) (l6 : Option Nat) (l7 : Int32) (w : wp_J1_resize_b347 G151 K h l0 l1 l2 l4 l6 l7) : Gd X h 347 [some (vR [2, 3] l0), some (vR [51] l1), some (vI l2), none, some (vI l4), none, some (vR [51] l6), some (vI l7), none, none, none, none, none, none] [] := by
  unfold wp_J1_resize_b347 at w
  refine g_iinc 350 rfl C dJ1_resize_347 rfl _ rfl (by decide) (rfl : _ = [some (vR [2, 3] _), some (vR [51] _), some (vI _), none, some (vI _), none, some (vR [51] _), some (vI _), none, none, none, none, none, none]) ?_
  refine g_goto 151 C dJ1_resize_350 rfl ?_
  refine g_sub [some none, some none, some none, none, some none, none, some none, some none, none, none, none, none, none, none] [] rfl rfl ?_
  exact k151 _ _ _ _ _ _ _ w
def wp_J1_resize_b327 (G151 : Hp → Option Nat → Option Nat → Int32 → Int32 → Option Nat → Int32 → Prop) (K : Option Nat → Hp → Prop) (h : Hp) (l0 : Option Nat) (l1 : Option Nat) (l2 : Int32) (l4 : Int32) (l6 : Option Nat) (l7 : Int32) (l11 : Option Nat) (l12 : Option Nat) : Prop :=
  ((l12 = none → (wp_J1_resize_b347 G151 K h l0 l1 l2 l4 l6 l7)) ∧ (∀ a178, l12 = some a178 → (∀ h179, h179 = wR h 3 a178 none → (∃ a180, l6 = some a180 ∧ (∃ j182, (l7 + l2) = nI j182 ∧ j182 < ln h179 a180 ∧ ∀ h185, h185 = wR h179 (100 + j182) a180 l11 → (wp_J1_resize_b347 G151 K h185 l0 l1 l2 l4 l6 l7))))))
set_option maxHeartbeats 4000000 in
theorem wk_J1_resize_b327 {X : Fx} {K : Option Nat → Hp → Prop} (C : Cx X cJ1_resize yJ1_resize.cls 14 7) (Rr : Rx X (Option.some (Jvm.ClassFile.FieldType.array (Jvm.ClassFile.FieldType.object "java/util/HashMap$Node"))) (pR [51] K)) (N : Nm X yJ1_resize.name) {G151 : Hp → Option Nat → Option Nat → Int32 → Int32 → Option Nat → Int32 → Prop} (k151 : ∀ (h : Hp) (l0 : Option Nat) (l1 : Option Nat) (l2 : Int32) (l4 : Int32) (l6 : Option Nat) (l7 : Int32), G151 h l0 l1 l2 l4 l6 l7 → Gd X h 151 [some (vR [2, 3] l0), some (vR [51] l1), some (vI l2), none, some (vI l4), none, some (vR [51] l6), some (vI l7), none, none, none, none, none, none] []) (h : Hp) (l0 : Option Nat) (l1 : Option Nat) (l2 : Int32) (l4 : Int32) (l6 : Option Nat) (l7 : Int32) (l11 : Option Nat) (l12 : Option Nat) (w : wp_J1_resize_b327 G151 K h l0 l1 l2 l4 l6 l7 l11 l12) : Gd X h 327 [some (vR [2, 3] l0), some (vR [51] l1), some (vI l2), none, some (vI l4), none, some (vR [51] l6), some (vI l7), none, none, none, some (vR [5, 6, 7] l11), some (vR [5, 6, 7] l12), none] [] := by
  unfold wp_J1_resize_b327 at w
  refine g_aload 329 rfl C dJ1_resize_327 rfl ?_
  refine g_ifnull 332 347 rfl C dJ1_resize_329 rfl (fun u177 => ?_) (fun a178 u177 => ?_)
  · have w := w.1 u177
    refine g_sub [some none, some none, some none, none, some none, none, some none, some none, none, none, none, none, none, none] [] rfl rfl ?_
    exact wk_J1_resize_b347 C Rr N k151 _ _ _ _ _ _ _ w
  · have w := w.2 a178 u177
    refine g_aload 334 rfl C dJ1_resize_332 rfl ?_
    refine g_null 335 rfl C dJ1_resize_334 ?_
    refine g_putR 338 rfl C dJ1_resize_335 fl_HashMap_177 rfl rfl rfl u177 rfl ?_
    have w := w _ rfl
    refine g_aload 340 rfl C dJ1_resize_338 rfl ?_
    refine g_iload 342 rfl C dJ1_resize_340 rfl ?_
    refine g_iload_n 343 rfl C dJ1_resize_342 rfl ?_
    refine g_iadd 344 rfl C dJ1_resize_343 ?_
    refine g_aload 346 rfl C dJ1_resize_344 rfl ?_
    obtain ⟨a180, e181, w⟩ := w
    obtain ⟨j182, e183, e184, w⟩ := w
    refine g_aastore 51 347 rfl C dJ1_resize_346 (by decide) rfl e181 e183 e184 ?_
    have w := w _ rfl
    refine g_sub [some none, some none, some none, none, some none, none, some none, some none, none, none, none, none, none, none] [] rfl rfl ?_
    exact wk_J1_resize_b347 C Rr N k151 _ _ _ _ _ _ _ w
def wp_J1_resize_b301 (G151 : Hp → Option Nat → Option Nat → Int32 → Int32 → Option Nat → Int32 → Prop) (G235 : Hp → Option Nat → Option Nat → Int32 → Int32 → Option Nat → Int32 → Option Nat → Option Nat → Option Nat → Option Nat → Option Nat → Prop) (K : Option Nat → Hp → Prop) (h : Hp) (l0 : Option Nat) (l1 : Option Nat) (l2 : Int32) (l4 : Int32) (l6 : Option Nat) (l7 : Int32) (l9 : Option Nat) (l10 : Option Nat) (l11 : Option Nat) (l12 : Option Nat) (l13 : Option Nat) : Prop :=
  ((l13 = none → ((l10 = none → (wp_J1_resize_b327 G151 K h l0 l1 l2 l4 l6 l7 l11 l12)) ∧ (∀ a198, l10 = some a198 → (∀ h199, h199 = wR h 3 a198 none → (∃ a200, l6 = some a200 ∧ (∃ j202, l7 = nI j202 ∧ j202 < ln h199 a200 ∧ ∀ h205, h205 = wR h199 (100 + j202) a200 l9 → (wp_J1_resize_b327 G151 K h205 l0 l1 l2 l4 l6 l7 l11 l12))))))) ∧ (∀ a196, l13 = some a196 → (G235 h l0 l1 l2 l4 l6 l7 l13 l9 l10 l11 l12)))
set_option maxHeartbeats 4000000 in
theorem wk_J1_resize_b301 {X : Fx} {K : Option Nat → Hp → Prop} (C : Cx X cJ1_resize yJ1_resize.cls 14 7) (Rr : Rx X (Option.some (Jvm.ClassFile.FieldType.array (Jvm.ClassFile.FieldType.object "java/util/HashMap$Node"))) (pR [51] K)) (N : Nm X yJ1_resize.name) {G151 : Hp → Option Nat → Option Nat → Int32 → Int32 → Option Nat → Int32 → Prop} {G235 : Hp → Option Nat → Option Nat → Int32 → Int32 → Option Nat → Int32 → Option Nat → Option Nat → Option Nat → Option Nat → Option Nat → Prop} (k151 : ∀ (h : Hp) (l0 : Option Nat) (l1 : Option Nat) (l2 : Int32) (l4 : Int32) (l6 : Option Nat) (l7 : Int32), G151 h l0 l1 l2 l4 l6 l7 → Gd X h 151 [some (vR [2, 3] l0), some (vR [51] l1), some (vI l2), none, some (vI l4), none, some (vR [51] l6), some (vI l7), none, none, none, none, none, none] []) (k235 : ∀ (h : Hp) (l0 : Option Nat) (l1 : Option Nat) (l2 : Int32) (l4 : Int32) (l6 : Option Nat) (l7 : Int32) (l8 : Option Nat) (l9 : Option Nat) (l10 : Option Nat) (l11 : Option Nat) (l12 : Option Nat), G235 h l0 l1 l2 l4 l6 l7 l8 l9 l10 l11 l12 → Gd X h 235 [some (vR [2, 3] l0), some (vR [51] l1), some (vI l2), none, some (vI l4), none, some (vR [51] l6), some (vI l7), some (vR [5, 6, 7] l8), some (vR [5, 6, 7] l9), some (vR [5, 6, 7] l10), some (vR [5, 6, 7] l11), some (vR [5, 6, 7] l12), none] []) (h : Hp) (l0 : Option Nat) (l1 : Option Nat) (l2 : Int32) (l4 : Int32) (l6 : Option Nat) (l7 : Int32) (l9 : Option Nat) (l10 : Option Nat) (l11 : Option Nat) (l12 : Option Nat) (l13 : Option Nat) (w : wp_J1_resize_b301 G151 G235 K h l0 l1 l2 l4 l6 l7 l9 l10 l11 l12 l13) : Gd X h 301 [some (vR [2, 3] l0), some (vR [51] l1), some (vI l2), none, some (vI l4), none, some (vR [51] l6), some (vI l7), none, some (vR [5, 6, 7] l9), some (vR [5, 6, 7] l10), some (vR [5, 6, 7] l11), some (vR [5, 6, 7] l12), some (vR [5, 6, 7] l13)] [] := by
  unfold wp_J1_resize_b301 at w
  refine g_aload 303 rfl C dJ1_resize_301 rfl ?_
  refine g_dup 304 rfl C dJ1_resize_303 rfl ?_
  refine g_astore 306 rfl C dJ1_resize_304 (by decide) (rfl : _ = [some (vR [2, 3] _), some (vR [51] _), some (vI _), none, some (vI _), none, some (vR [51] _), some (vI _), some (vR [5, 6, 7] _), some (vR [5, 6, 7] _), some (vR [5, 6, 7] _), some (vR [5, 6, 7] _), some (vR [5, 6, 7] _), some (vR [5, 6, 7] _)]) ?_
  refine g_ifnonnull 309 235 rfl C dJ1_resize_306 rfl (fun a196 u195 => ?_) (fun u195 => ?_)
  · have w := w.2 a196 u195
    refine g_sub [some none, some none, some none, none, some none, none, some none, some none, some none, some none, some none, some none, some none, none] [] rfl rfl ?_
    exact k235 _ _ _ _ _ _ _ _ _ _ _ _ w
  · have w := w.1 u195
    refine g_aload 311 rfl C dJ1_resize_309 rfl ?_
    refine g_ifnull 314 327 rfl C dJ1_resize_311 rfl (fun u197 => ?_) (fun a198 u197 => ?_)
    · have w := w.1 u197
      refine g_sub [some none, some none, some none, none, some none, none, some none, some none, none, none, none, some none, some none, none] [] rfl rfl ?_
      exact wk_J1_resize_b327 C Rr N k151 _ _ _ _ _ _ _ _ _ w
    · have w := w.2 a198 u197
      refine g_aload 316 rfl C dJ1_resize_314 rfl ?_
      refine g_null 317 rfl C dJ1_resize_316 ?_
      refine g_putR 320 rfl C dJ1_resize_317 fl_HashMap_177 rfl rfl rfl u197 rfl ?_
      have w := w _ rfl
      refine g_aload 322 rfl C dJ1_resize_320 rfl ?_
      refine g_iload 324 rfl C dJ1_resize_322 rfl ?_
      refine g_aload 326 rfl C dJ1_resize_324 rfl ?_
      obtain ⟨a200, e201, w⟩ := w
      obtain ⟨j202, e203, e204, w⟩ := w
      refine g_aastore 51 327 rfl C dJ1_resize_326 (by decide) rfl e201 e203 e204 ?_
      have w := w _ rfl
      refine g_sub [some none, some none, some none, none, some none, none, some none, some none, none, none, none, some none, some none, none] [] rfl rfl ?_
      exact wk_J1_resize_b327 C Rr N k151 _ _ _ _ _ _ _ _ _ w
def wp_J1_resize_b271 (G151 : Hp → Option Nat → Option Nat → Int32 → Int32 → Option Nat → Int32 → Prop) (G235 : Hp → Option Nat → Option Nat → Int32 → Int32 → Option Nat → Int32 → Option Nat → Option Nat → Option Nat → Option Nat → Option Nat → Prop) (K : Option Nat → Hp → Prop) (h : Hp) (l0 : Option Nat) (l1 : Option Nat) (l2 : Int32) (l4 : Int32) (l6 : Option Nat) (l7 : Int32) (l8 : Option Nat) (l9 : Option Nat) (l11 : Option Nat) (l12 : Option Nat) (l13 : Option Nat) : Prop :=
  (wp_J1_resize_b301 G151 G235 K h l0 l1 l2 l4 l6 l7 l9 l8 l11 l12 l13)
set_option maxHeartbeats 4000000 in
theorem wk_J1_resize_b271 {X : Fx} {K : Option Nat → Hp → Prop} (C : Cx X cJ1_resize yJ1_resize.cls 14 7) (Rr : Rx X (Option.some (Jvm.ClassFile.FieldType.array (Jvm.ClassFile.FieldType.object "java/util/HashMap$Node"))) (pR [51] K)) (N : Nm X yJ1_resize.name) {G151 : Hp → Option Nat → Option Nat → Int32 → Int32 → Option Nat → Int32 → Prop} {G235 : Hp → Option Nat → Option Nat → Int32 → Int32 → Option Nat → Int32 → Option Nat → Option Nat → Option Nat → Option Nat → Option Nat → Prop} (k151 : ∀ (h : Hp) (l0 : Option Nat) (l1 : Option Nat) (l2 : Int32) (l4 : Int32) (l6 : Option Nat) (l7 : Int32), G151 h l0 l1 l2 l4 l6 l7 → Gd X h 151 [some (vR [2, 3] l0), some (vR [51] l1), some (vI l2), none, some (vI l4), none, some (vR [51] l6), some (vI l7), none, none, none, none, none, none] []) (k235 : ∀ (h : Hp) (l0 : Option Nat) (l1 : Option Nat) (l2 : Int32) (l4 : Int32) (l6 : Option Nat) (l7 : Int32) (l8 : Option Nat) (l9 : Option Nat) (l10 : Option Nat) (l11 : Option Nat) (l12 : Option Nat), G235 h l0 l1 l2 l4 l6 l7 l8 l9 l10 l11 l12 → Gd X h 235 [some (vR [2, 3] l0), some (vR [51] l1), some (vI l2), none, some (vI l4), none, some (vR [51] l6), some (vI l7), some (vR [5, 6, 7] l8), some (vR [5, 6, 7] l9), some (vR [5, 6, 7] l10), some (vR [5, 6, 7] l11), some (vR [5, 6, 7] l12), none] []) (h : Hp) (l0 : Option Nat) (l1 : Option Nat) (l2 : Int32) (l4 : Int32) (l6 : Option Nat) (l7 : Int32) (l8 : Option Nat) (l9 : Option Nat) (l11 : Option Nat) (l12 : Option Nat) (l13 : Option Nat) (w : wp_J1_resize_b271 G151 G235 K h l0 l1 l2 l4 l6 l7 l8 l9 l11 l12 l13) : Gd X h 271 [some (vR [2, 3] l0), some (vR [51] l1), some (vI l2), none, some (vI l4), none, some (vR [51] l6), some (vI l7), some (vR [5, 6, 7] l8), some (vR [5, 6, 7] l9), none, some (vR [5, 6, 7] l11), some (vR [5, 6, 7] l12), some (vR [5, 6, 7] l13)] [] := by
  unfold wp_J1_resize_b271 at w
  refine g_aload 273 rfl C dJ1_resize_271 rfl ?_
  refine g_astore 275 rfl C dJ1_resize_273 (by decide) (rfl : _ = [some (vR [2, 3] _), some (vR [51] _), some (vI _), none, some (vI _), none, some (vR [51] _), some (vI _), some (vR [5, 6, 7] _), some (vR [5, 6, 7] _), some (vR [5, 6, 7] _), some (vR [5, 6, 7] _), some (vR [5, 6, 7] _), some (vR [5, 6, 7] _)]) ?_
  refine g_goto 301 C dJ1_resize_275 rfl ?_
  refine g_sub [some none, some none, some none, none, some none, none, some none, some none, none, some none, some none, some none, some none, some none] [] rfl rfl ?_
  exact wk_J1_resize_b301 C Rr N k151 k235 _ _ _ _ _ _ _ _ _ _ _ _ w
def wp_J1_resize_b297 (G151 : Hp → Option Nat → Option Nat → Int32 → Int32 → Option Nat → Int32 → Prop) (G235 : Hp → Option Nat → Option Nat → Int32 → Int32 → Option Nat → Int32 → Option Nat → Option Nat → Option Nat → Option Nat → Option Nat → Prop) (K : Option Nat → Hp → Prop) (h : Hp) (l0 : Option Nat) (l1 : Option Nat) (l2 : Int32) (l4 : Int32) (l6 : Option Nat) (l7 : Int32) (l8 : Option Nat) (l9 : Option Nat) (l10 : Option Nat) (l11 : Option Nat) (l13 : Option Nat) : Prop :=
  (wp_J1_resize_b301 G151 G235 K h l0 l1 l2 l4 l6 l7 l9 l10 l11 l8 l13)
set_option maxHeartbeats 4000000 in
theorem wk_J1_resize_b297 {X : Fx} {K : Option Nat → Hp → Prop} (C : Cx X cJ1_resize yJ1_resize.cls 14 7) (Rr : Rx X (Option.some (Jvm.ClassFile.FieldType.array (Jvm.ClassFile.FieldType.object "java/util/HashMap$Node"))) (pR [51] K)) (N : Nm X yJ1_resize.name) {G151 : Hp → Option Nat → Option Nat → Int32 → Int32 → Option Nat → Int32 → Prop} {G235 : Hp → Option Nat → Option Nat → Int32 → Int32 → Option Nat → Int32 → Option Nat → Option Nat → Option Nat → Option Nat → Option Nat → Prop} (k151 : ∀ (h : Hp) (l0 : Option Nat) (l1 : Option Nat) (l2 : Int32) (l4 : Int32) (l6 : Option Nat) (l7 : Int32), G151 h l0 l1 l2 l4 l6 l7 → Gd X h 151 [some (vR [2, 3] l0), some (vR [51] l1), some (vI l2), none, some (vI l4), none, some (vR [51] l6), some (vI l7), none, none, none, none, none, none] []) (k235 : ∀ (h : Hp) (l0 : Option Nat) (l1 : Option Nat) (l2 : Int32) (l4 : Int32) (l6 : Option Nat) (l7 : Int32) (l8 : Option Nat) (l9 : Option Nat) (l10 : Option Nat) (l11 : Option Nat) (l12 : Option Nat), G235 h l0 l1 l2 l4 l6 l7 l8 l9 l10 l11 l12 → Gd X h 235 [some (vR [2, 3] l0), some (vR [51] l1), some (vI l2), none, some (vI l4), none, some (vR [51] l6), some (vI l7), some (vR [5, 6, 7] l8), some (vR [5, 6, 7] l9), some (vR [5, 6, 7] l10), some (vR [5, 6, 7] l11), some (vR [5, 6, 7] l12), none] []) (h : Hp) (l0 : Option Nat) (l1 : Option Nat) (l2 : Int32) (l4 : Int32) (l6 : Option Nat) (l7 : Int32) (l8 : Option Nat) (l9 : Option Nat) (l10 : Option Nat) (l11 : Option Nat) (l13 : Option Nat) (w : wp_J1_resize_b297 G151 G235 K h l0 l1 l2 l4 l6 l7 l8 l9 l10 l11 l13) : Gd X h 297 [some (vR [2, 3] l0), some (vR [51] l1), some (vI l2), none, some (vI l4), none, some (vR [51] l6), some (vI l7), some (vR [5, 6, 7] l8), some (vR [5, 6, 7] l9), some (vR [5, 6, 7] l10), some (vR [5, 6, 7] l11), none, some (vR [5, 6, 7] l13)] [] := by
  unfold wp_J1_resize_b297 at w
  refine g_aload 299 rfl C dJ1_resize_297 rfl ?_
  refine g_astore 301 rfl C dJ1_resize_299 (by decide) (rfl : _ = [some (vR [2, 3] _), some (vR [51] _), some (vI _), none, some (vI _), none, some (vR [51] _), some (vI _), some (vR [5, 6, 7] _), some (vR [5, 6, 7] _), some (vR [5, 6, 7] _), some (vR [5, 6, 7] _), some (vR [5, 6, 7] _), some (vR [5, 6, 7] _)]) ?_
  refine g_sub [some none, some none, some none, none, some none, none, some none, some none, none, some none, some none, some none, some none, some none] [] rfl rfl ?_
  exact wk_J1_resize_b301 C Rr N k151 k235 _ _ _ _ _ _ _ _ _ _ _ _ w
def wp_J1_resize_b235 (G151 : Hp → Option Nat → Option Nat → Int32 → Int32 → Option Nat → Int32 → Prop) (K : Option Nat → Hp → Prop) : Nat → Hp → Option Nat → Option Nat → Int32 → Int32 → Option Nat → Int32 → Option Nat → Option Nat → Option Nat → Option Nat → Option Nat → Prop
  | 0 => fun _ _ _ _ _ _ _ _ _ _ _ _ => False
  | m9 + 1 => fun h l0 l1 l2 l4 l6 l7 l8 l9 l10 l11 l12 =>
    (∃ a186, l8 = some a186 ∧ ((¬ ((it h 0 a186) &&& l2) = 0 → ((l12 = none → (wp_J1_resize_b297 G151 (wp_J1_resize_b235 G151 K m9) K h l0 l1 l2 l4 l6 l7 l8 l9 l10 l8 (rf h 3 a186))) ∧ (∀ a190, l12 = some a190 → (∀ h191, h191 = wR h 3 a190 l8 → (wp_J1_resize_b297 G151 (wp_J1_resize_b235 G151 K m9) K h191 l0 l1 l2 l4 l6 l7 l8 l9 l10 l11 (rf h 3 a186)))))) ∧ (((it h 0 a186) &&& l2) = 0 → ((l10 = none → (wp_J1_resize_b271 G151 (wp_J1_resize_b235 G151 K m9) K h l0 l1 l2 l4 l6 l7 l8 l8 l11 l12 (rf h 3 a186))) ∧ (∀ a193, l10 = some a193 → (∀ h194, h194 = wR h 3 a193 l8 → (wp_J1_resize_b271 G151 (wp_J1_resize_b235 G151 K m9) K h194 l0 l1 l2 l4 l6 l7 l8 l9 l11 l12 (rf h 3 a186))))))))
set_option maxHeartbeats 4000000 in
theorem wk_J1_resize_b235 {X : Fx} {K : Option Nat → Hp → Prop} (C : Cx X cJ1_resize yJ1_resize.cls 14 7) (Rr : Rx X (Option.some (Jvm.ClassFile.FieldType.array (Jvm.ClassFile.FieldType.object "java/util/HashMap$Node"))) (pR [51] K)) (N : Nm X yJ1_resize.name) {G151 : Hp → Option Nat → Option Nat → Int32 → Int32 → Option Nat → Int32 → Prop} (k151 : ∀ (h : Hp) (l0 : Option Nat) (l1 : Option Nat) (l2 : Int32) (l4 : Int32) (l6 : Option Nat) (l7 : Int32), G151 h l0 l1 l2 l4 l6 l7 → Gd X h 151 [some (vR [2, 3] l0), some (vR [51] l1), some (vI l2), none, some (vI l4), none, some (vR [51] l6), some (vI l7), none, none, none, none, none, none] []) : ∀ (n : Nat) (h : Hp) (l0 : Option Nat) (l1 : Option Nat) (l2 : Int32) (l4 : Int32) (l6 : Option Nat) (l7 : Int32) (l8 : Option Nat) (l9 : Option Nat) (l10 : Option Nat) (l11 : Option Nat) (l12 : Option Nat), wp_J1_resize_b235 G151 K n h l0 l1 l2 l4 l6 l7 l8 l9 l10 l11 l12 → Gd X h 235 [some (vR [2, 3] l0), some (vR [51] l1), some (vI l2), none, some (vI l4), none, some (vR [51] l6), some (vI l7), some (vR [5, 6, 7] l8), some (vR [5, 6, 7] l9), some (vR [5, 6, 7] l10), some (vR [5, 6, 7] l11), some (vR [5, 6, 7] l12), none] [] := by
  intro n
  induction n with
  | zero => intro h l0 l1 l2 l4 l6 l7 l8 l9 l10 l11 l12 w; exact w.elim
  | succ n ih =>
    intro h l0 l1 l2 l4 l6 l7 l8 l9 l10 l11 l12 w
    unfold wp_J1_resize_b235 at w
    refine g_aload 237 rfl C dJ1_resize_235 rfl ?_
    obtain ⟨a186, e187, w⟩ := w
    refine g_getR 240 rfl C dJ1_resize_237 fl_HashMap_177 rfl e187 rfl ?_
    refine g_astore 242 rfl C dJ1_resize_240 (by decide) (rfl : _ = [some (vR [2, 3] _), some (vR [51] _), some (vI _), none, some (vI _), none, some (vR [51] _), some (vI _), some (vR [5, 6, 7] _), some (vR [5, 6, 7] _), some (vR [5, 6, 7] _), some (vR [5, 6, 7] _), some (vR [5, 6, 7] _), some (vR [5, 6, 7] _)]) ?_
    refine g_aload 244 rfl C dJ1_resize_242 rfl ?_
    refine g_getI 247 rfl C dJ1_resize_244 fl_HashMap_168 rfl e187 rfl ?_
    refine g_iload_n 248 rfl C dJ1_resize_247 rfl ?_
    refine g_iand 249 rfl C dJ1_resize_248 ?_
    refine g_if_ne 252 278 rfl C dJ1_resize_249 rfl (fun u188 => ?_) (fun u188 => ?_)
    · have w := w.1 u188
      refine g_aload 280 rfl C dJ1_resize_278 rfl ?_
      refine g_ifnonnull 283 290 rfl C dJ1_resize_280 rfl (fun a190 u189 => ?_) (fun u189 => ?_)
      · have w := w.2 a190 u189
        refine g_aload 292 rfl C dJ1_resize_290 rfl ?_
        refine g_aload 294 rfl C dJ1_resize_292 rfl ?_
        refine g_putR 297 rfl C dJ1_resize_294 fl_HashMap_177 rfl rfl rfl u189 rfl ?_
        have w := w _ rfl
        refine g_sub [some none, some none, some none, none, some none, none, some none, some none, some none, some none, some none, some none, none, some none] [] rfl rfl ?_
        exact wk_J1_resize_b297 C Rr N k151 ih _ _ _ _ _ _ _ _ _ _ _ _ w
      · have w := w.1 u189
        refine g_aload 285 rfl C dJ1_resize_283 rfl ?_
        refine g_astore 287 rfl C dJ1_resize_285 (by decide) (rfl : _ = [some (vR [2, 3] _), some (vR [51] _), some (vI _), none, some (vI _), none, some (vR [51] _), some (vI _), some (vR [5, 6, 7] _), some (vR [5, 6, 7] _), some (vR [5, 6, 7] _), some (vR [5, 6, 7] _), some (vR [5, 6, 7] _), some (vR [5, 6, 7] _)]) ?_
        refine g_goto 297 C dJ1_resize_287 rfl ?_
        refine g_sub [some none, some none, some none, none, some none, none, some none, some none, some none, some none, some none, some none, none, some none] [] rfl rfl ?_
        exact wk_J1_resize_b297 C Rr N k151 ih _ _ _ _ _ _ _ _ _ _ _ _ w
    · have w := w.2 u188
      refine g_aload 254 rfl C dJ1_resize_252 rfl ?_
      refine g_ifnonnull 257 264 rfl C dJ1_resize_254 rfl (fun a193 u192 => ?_) (fun u192 => ?_)
      · have w := w.2 a193 u192
        refine g_aload 266 rfl C dJ1_resize_264 rfl ?_
        refine g_aload 268 rfl C dJ1_resize_266 rfl ?_
        refine g_putR 271 rfl C dJ1_resize_268 fl_HashMap_177 rfl rfl rfl u192 rfl ?_
        have w := w _ rfl
        refine g_sub [some none, some none, some none, none, some none, none, some none, some none, some none, some none, none, some none, some none, some none] [] rfl rfl ?_
        exact wk_J1_resize_b271 C Rr N k151 ih _ _ _ _ _ _ _ _ _ _ _ _ w
      · have w := w.1 u192
        refine g_aload 259 rfl C dJ1_resize_257 rfl ?_
        refine g_astore 261 rfl C dJ1_resize_259 (by decide) (rfl : _ = [some (vR [2, 3] _), some (vR [51] _), some (vI _), none, some (vI _), none, some (vR [51] _), some (vI _), some (vR [5, 6, 7] _), some (vR [5, 6, 7] _), some (vR [5, 6, 7] _), some (vR [5, 6, 7] _), some (vR [5, 6, 7] _), some (vR [5, 6, 7] _)]) ?_
        refine g_goto 271 C dJ1_resize_261 rfl ?_
        refine g_sub [some none, some none, some none, none, some none, none, some none, some none, some none, some none, none, some none, some none, some none] [] rfl rfl ?_
        exact wk_J1_resize_b271 C Rr N k151 ih _ _ _ _ _ _ _ _ _ _ _ _ w
def wp_J1_resize_b353 (K : Option Nat → Hp → Prop) (h : Hp) (l6 : Option Nat) : Prop :=
  (K l6 h)
set_option maxHeartbeats 4000000 in
theorem wk_J1_resize_b353 {X : Fx} {K : Option Nat → Hp → Prop} (C : Cx X cJ1_resize yJ1_resize.cls 14 7) (Rr : Rx X (Option.some (Jvm.ClassFile.FieldType.array (Jvm.ClassFile.FieldType.object "java/util/HashMap$Node"))) (pR [51] K)) (N : Nm X yJ1_resize.name) (h : Hp) (l6 : Option Nat) (w : wp_J1_resize_b353 K h l6) : Gd X h 353 [none, none, none, none, none, none, some (vR [51] l6), none, none, none, none, none, none, none] [] := by
  unfold wp_J1_resize_b353 at w
  refine g_aload 355 rfl C dJ1_resize_353 rfl ?_
  exact g_areturn [51] C Rr rfl dJ1_resize_355 rfl ⟨_, rfl, w⟩
def wp_J1_resize_b151 (K : Option Nat → Hp → Prop) : Nat → Hp → Option Nat → Option Nat → Int32 → Int32 → Option Nat → Int32 → Prop
  | 0 => fun _ _ _ _ _ _ _ => False
  | m9 + 1 => fun h l0 l1 l2 l4 l6 l7 =>
    ((l2 ≤ l7 → (wp_J1_resize_b353 K h l6)) ∧ (¬ l2 ≤ l7 → (∃ a221, l1 = some a221 ∧ (∃ j223, l7 = nI j223 ∧ j223 < ln h a221 ∧ (((rf h (100 + j223) a221) = none → (wp_J1_resize_b347 (wp_J1_resize_b151 K m9) K h l0 l1 l2 l4 l6 l7)) ∧ (∀ a227, (rf h (100 + j223) a221) = some a227 → (∃ j228, l7 = nI j228 ∧ j228 < ln h a221 ∧ ∀ h231, h231 = wR h (100 + j228) a221 none → (((rf h231 3 a227) = none → (∃ a234, l6 = some a234 ∧ (∃ j236, ((it h231 0 a227) &&& (l4 - 1)) = nI j236 ∧ j236 < ln h231 a234 ∧ ∀ h239, h239 = wR h231 (100 + j236) a234 (rf h (100 + j223) a221) → (wp_J1_resize_b347 (wp_J1_resize_b151 K m9) K h239 l0 l1 l2 l4 l6 l7)))) ∧ (∀ a233, (rf h231 3 a227) = some a233 → ((kd h231 a227 ∈ [7] → ((∀ a, (rf h (100 + j223) a221) = some a → kd h231 a ∈ [7]) ∧ (wp_J8_split h231 (rf h (100 + j223) a221) l0 l6 l7 l2 (fun h246 => Ex h231 h246 → (wp_J1_resize_b347 (wp_J1_resize_b151 K m9) K h246 l0 l1 l2 l4 l6 l7))))) ∧ (kd h231 a227 ∈ [5, 6] → (∃ n, wp_J1_resize_b235 (wp_J1_resize_b151 K m9) K n h231 l0 l1 l2 l4 l6 l7 (rf h (100 + j223) a221) none none none none))))))))))))
set_option maxHeartbeats 4000000 in
theorem wk_J1_resize_b151 {X : Fx} {K : Option Nat → Hp → Prop} (C : Cx X cJ1_resize yJ1_resize.cls 14 7) (Rr : Rx X (Option.some (Jvm.ClassFile.FieldType.array (Jvm.ClassFile.FieldType.object "java/util/HashMap$Node"))) (pR [51] K)) (N : Nm X yJ1_resize.name) : ∀ (n : Nat) (h : Hp) (l0 : Option Nat) (l1 : Option Nat) (l2 : Int32) (l4 : Int32) (l6 : Option Nat) (l7 : Int32), wp_J1_resize_b151 K n h l0 l1 l2 l4 l6 l7 → Gd X h 151 [some (vR [2, 3] l0), some (vR [51] l1), some (vI l2), none, some (vI l4), none, some (vR [51] l6), some (vI l7), none, none, none, none, none, none] [] := by
  intro n
  induction n with
  | zero => intro h l0 l1 l2 l4 l6 l7 w; exact w.elim
  | succ n ih =>
    intro h l0 l1 l2 l4 l6 l7 w
    unfold wp_J1_resize_b151 at w
    refine g_iload 153 rfl C dJ1_resize_151 rfl ?_
    refine g_iload_n 154 rfl C dJ1_resize_153 rfl ?_
    refine g_icmp_ge 157 353 rfl C dJ1_resize_154 rfl (fun u220 => ?_) (fun u220 => ?_)
    · have w := w.1 u220
      refine g_sub [none, none, none, none, none, none, some none, none, none, none, none, none, none, none] [] rfl rfl ?_
      exact wk_J1_resize_b353 C Rr N _ _ w
    · have w := w.2 u220
      refine g_aload_n 158 rfl C dJ1_resize_157 rfl ?_
      refine g_iload 160 rfl C dJ1_resize_158 rfl ?_
      obtain ⟨a221, e222, w⟩ := w
      obtain ⟨j223, e224, e225, w⟩ := w
      refine g_aaload 51 161 rfl C dJ1_resize_160 (by decide) e222 e224 e225 ?_
      refine g_dup 162 rfl C dJ1_resize_161 rfl ?_
      refine g_astore 164 rfl C dJ1_resize_162 (by decide) (rfl : _ = [some (vR [2, 3] _), some (vR [51] _), some (vI _), none, some (vI _), none, some (vR [51] _), some (vI _), some (vR [5, 6, 7] _), none, none, none, none, none]) ?_
      refine g_ifnull 167 347 rfl C dJ1_resize_164 rfl (fun u226 => ?_) (fun a227 u226 => ?_)
      · have w := w.1 u226
        refine g_sub [some none, some none, some none, none, some none, none, some none, some none, none, none, none, none, none, none] [] rfl rfl ?_
        exact wk_J1_resize_b347 C Rr N ih _ _ _ _ _ _ _ w
      · have w := w.2 a227 u226
        refine g_aload_n 168 rfl C dJ1_resize_167 rfl ?_
        refine g_iload 170 rfl C dJ1_resize_168 rfl ?_
        refine g_null 171 rfl C dJ1_resize_170 ?_
        obtain ⟨j228, e229, e230, w⟩ := w
        refine g_aastore 51 172 rfl C dJ1_resize_171 (by decide) rfl e222 e229 e230 ?_
        have w := w _ rfl
        refine g_aload 174 rfl C dJ1_resize_172 rfl ?_
        refine g_getR 177 rfl C dJ1_resize_174 fl_HashMap_177 rfl u226 rfl ?_
        refine g_ifnonnull 180 198 rfl C dJ1_resize_177 rfl (fun a233 u232 => ?_) (fun u232 => ?_)
        · have w := w.2 a233 u232
          refine g_aload 200 rfl C dJ1_resize_198 rfl ?_
          refine g_inst [7] [5, 6] 203 rfl C dJ1_resize_200 q222 co_HashMap_TreeNode_7 cno_HashMap_TreeNode_5_6 rfl (fun a240 u241 k242 => ?_) (fun a240 u241 k242 => ?_) (fun u241 => absurd (u241.symm.trans u226) (fun z => by cases z))
          · have a240e := Option.some.inj (u226.symm.trans u241)
            subst a240e
            have w := w.1 k242
            refine g_if_eq 206 223 rfl C dJ1_resize_203 rfl (fun q => absurd q (by decide)) (fun _ => ?_)
            refine g_aload 208 rfl C dJ1_resize_206 rfl ?_
            obtain ⟨k243, w⟩ := w
            refine g_cast [7] 211 rfl C dJ1_resize_208 q222 co_HashMap_TreeNode_7 (fun a q _ => k243 a q) ?_
            refine g_aload_n 212 rfl C dJ1_resize_211 rfl ?_
            refine g_aload 214 rfl C dJ1_resize_212 rfl ?_
            refine g_iload 216 rfl C dJ1_resize_214 rfl ?_
            refine g_iload_n 217 rfl C dJ1_resize_216 rfl ?_
            refine g_callV (As := [vR [2, 3] _, vR [51] _, vI _, vI _]) (T := [7]) (st := []) "java/util/HashMap$TreeNode" 220 rfl C dJ1_resize_217 q223 q224 q225 q21 q226 rfl okn_ae5f59 (by decide) (by decide) (Nat.le_of_ble_eq_true rfl) u226 (fun q => tC rfl q) rfl (ct_J8_split C.glob w) (fun r0 h246 p247 x248 _ => ?_)
            obtain ⟨rfl, w⟩ := p247
            have w := w x248
            change Gd _ _ _ _ []
            refine g_goto 347 C dJ1_resize_220 rfl ?_
            refine g_sub [some none, some none, some none, none, some none, none, some none, some none, none, none, none, none, none, none] [] rfl rfl ?_
            exact wk_J1_resize_b347 C Rr N ih _ _ _ _ _ _ _ w
          · have a240e := Option.some.inj (u226.symm.trans u241)
            subst a240e
            have w := w.2 k242
            refine g_if_eq 206 223 rfl C dJ1_resize_203 rfl (fun _ => ?_) (fun q => absurd q (by decide))
            refine g_null 224 rfl C dJ1_resize_223 ?_
            refine g_astore 226 rfl C dJ1_resize_224 (by decide) (rfl : _ = [some (vR [2, 3] _), some (vR [51] _), some (vI _), none, some (vI _), none, some (vR [51] _), some (vI _), some (vR [5, 6, 7] _), some (vR [] _), none, none, none, none]) ?_
            refine g_null 227 rfl C dJ1_resize_226 ?_
            refine g_astore 229 rfl C dJ1_resize_227 (by decide) (rfl : _ = [some (vR [2, 3] _), some (vR [51] _), some (vI _), none, some (vI _), none, some (vR [51] _), some (vI _), some (vR [5, 6, 7] _), some (vR [] _), some (vR [] _), none, none, none]) ?_
            refine g_null 230 rfl C dJ1_resize_229 ?_
            refine g_astore 232 rfl C dJ1_resize_230 (by decide) (rfl : _ = [some (vR [2, 3] _), some (vR [51] _), some (vI _), none, some (vI _), none, some (vR [51] _), some (vI _), some (vR [5, 6, 7] _), some (vR [] _), some (vR [] _), some (vR [] _), none, none]) ?_
            refine g_null 233 rfl C dJ1_resize_232 ?_
            refine g_astore 235 rfl C dJ1_resize_233 (by decide) (rfl : _ = [some (vR [2, 3] _), some (vR [51] _), some (vI _), none, some (vI _), none, some (vR [51] _), some (vI _), some (vR [5, 6, 7] _), some (vR [] _), some (vR [] _), some (vR [] _), some (vR [] _), none]) ?_
            refine g_sub [some none, some none, some none, none, some none, none, some none, some none, some none, some (some [5, 6, 7]), some (some [5, 6, 7]), some (some [5, 6, 7]), some (some [5, 6, 7]), none] [] rfl rfl ?_
            obtain ⟨n9, w⟩ := w
            exact wk_J1_resize_b235 C Rr N ih n9 _ _ _ _ _ _ _ _ _ _ _ _ w
        · have w := w.1 u232
          refine g_aload 182 rfl C dJ1_resize_180 rfl ?_
          refine g_aload 184 rfl C dJ1_resize_182 rfl ?_
          refine g_getI 187 rfl C dJ1_resize_184 fl_HashMap_168 rfl u226 rfl ?_
          refine g_iload 189 rfl C dJ1_resize_187 rfl ?_
          refine g_iconst 190 rfl C dJ1_resize_189 1 rfl ?_
          refine g_isub 191 rfl C dJ1_resize_190 ?_
          refine g_iand 192 rfl C dJ1_resize_191 ?_
          refine g_aload 194 rfl C dJ1_resize_192 rfl ?_
          obtain ⟨a234, e235, w⟩ := w
          obtain ⟨j236, e237, e238, w⟩ := w
          refine g_aastore 51 195 rfl C dJ1_resize_194 (by decide) rfl e235 e237 e238 ?_
          have w := w _ rfl
          refine g_goto 347 C dJ1_resize_195 rfl ?_
          refine g_sub [some none, some none, some none, none, some none, none, some none, some none, none, none, none, none, none, none] [] rfl rfl ?_
          exact wk_J1_resize_b347 C Rr N ih _ _ _ _ _ _ _ w
def wp_J1_resize_b125 (K : Option Nat → Hp → Prop) (h : Hp) (l0 : Option Nat) (l1 : Option Nat) (l2 : Int32) (l4 : Int32) (l5 : Int32) : Prop :=
  (∃ a249, l0 = some a249 ∧ (∀ h251, h251 = wI h 17 a249 l5 → (∃ N252, l4 = nI N252 ∧ N252 < 2 ^ 26 ∧ Rm h251 1 N252 ∧ ∀ a256, kd h251 a256 = 0 → ∀ h258, h258 = nw h251 a256 51 N252 → (∀ h259, h259 = wR h258 13 a249 (some a256) → ((l1 = none → (wp_J1_resize_b353 K h259 (some a256))) ∧ (∀ a261, l1 = some a261 → (∃ n, wp_J1_resize_b151 K n h259 l0 l1 l2 l4 (some a256) 0)))))))
set_option maxHeartbeats 4000000 in
theorem wk_J1_resize_b125 {X : Fx} {K : Option Nat → Hp → Prop} (C : Cx X cJ1_resize yJ1_resize.cls 14 7) (Rr : Rx X (Option.some (Jvm.ClassFile.FieldType.array (Jvm.ClassFile.FieldType.object "java/util/HashMap$Node"))) (pR [51] K)) (N : Nm X yJ1_resize.name) (h : Hp) (l0 : Option Nat) (l1 : Option Nat) (l2 : Int32) (l4 : Int32) (l5 : Int32) (w : wp_J1_resize_b125 K h l0 l1 l2 l4 l5) : Gd X h 125 [some (vR [2, 3] l0), some (vR [51] l1), some (vI l2), none, some (vI l4), some (vI l5), none, none, none, none, none, none, none, none] [] := by
  unfold wp_J1_resize_b125 at w
  refine g_aload_n 126 rfl C dJ1_resize_125 rfl ?_
  refine g_iload 128 rfl C dJ1_resize_126 rfl ?_
  obtain ⟨a249, e250, w⟩ := w
  refine g_putI 131 rfl C dJ1_resize_128 fl_HashMap_88 rfl rfl e250 rfl ?_
  have w := w _ rfl
  refine g_iload 133 rfl C dJ1_resize_131 rfl ?_
  obtain ⟨N252, e253, b254, r255, w⟩ := w
  refine g_newA 51 136 rfl C dJ1_resize_133 (by decide) rfl q220 q221 e253 b254 r255 (fun a256 z257 => ?_)
  have w := w a256 z257 _ rfl
  refine g_astore 138 rfl C dJ1_resize_136 (by decide) (rfl : _ = [some (vR [2, 3] _), some (vR [51] _), some (vI _), none, some (vI _), some (vI _), some (vR [51] _), none, none, none, none, none, none, none]) ?_
  refine g_aload_n 139 rfl C dJ1_resize_138 rfl ?_
  refine g_aload 141 rfl C dJ1_resize_139 rfl ?_
  refine g_putR 144 rfl C dJ1_resize_141 fl_HashMap_105 rfl rfl rfl e250 rfl ?_
  have w := w _ rfl
  refine g_aload_n 145 rfl C dJ1_resize_144 rfl ?_
  refine g_ifnull 148 353 rfl C dJ1_resize_145 rfl (fun u260 => ?_) (fun a261 u260 => ?_)
  · have w := w.1 u260
    refine g_sub [none, none, none, none, none, none, some none, none, none, none, none, none, none, none] [] rfl rfl ?_
    exact wk_J1_resize_b353 C Rr N _ _ w
  · have w := w.2 a261 u260
    refine g_iconst 149 rfl C dJ1_resize_148 0 rfl ?_
    refine g_istore 151 rfl C dJ1_resize_149 (by decide) (rfl : _ = [some (vR [2, 3] _), some (vR [51] _), some (vI _), none, some (vI _), some (vI _), some (vR [51] _), some (vI _), none, none, none, none, none, none]) ?_
    refine g_sub [some none, some none, some none, none, some none, none, some none, some none, none, none, none, none, none, none] [] rfl rfl ?_
    obtain ⟨n9, w⟩ := w
    exact wk_J1_resize_b151 C Rr N n9 _ _ _ _ _ _ _ w
def wp_J1_resize_b123 (K : Option Nat → Hp → Prop) (h : Hp) (l0 : Option Nat) (l1 : Option Nat) (l2 : Int32) (l4 : Int32) (s0 : Int32) : Prop :=
  (wp_J1_resize_b125 K h l0 l1 l2 l4 s0)
set_option maxHeartbeats 4000000 in
theorem wk_J1_resize_b123 {X : Fx} {K : Option Nat → Hp → Prop} (C : Cx X cJ1_resize yJ1_resize.cls 14 7) (Rr : Rx X (Option.some (Jvm.ClassFile.FieldType.array (Jvm.ClassFile.FieldType.object "java/util/HashMap$Node"))) (pR [51] K)) (N : Nm X yJ1_resize.name) (h : Hp) (l0 : Option Nat) (l1 : Option Nat) (l2 : Int32) (l4 : Int32) (s0 : Int32) (w : wp_J1_resize_b123 K h l0 l1 l2 l4 s0) : Gd X h 123 [some (vR [2, 3] l0), some (vR [51] l1), some (vI l2), none, some (vI l4), none, none, none, none, none, none, none, none, none] [vI s0] := by
  unfold wp_J1_resize_b123 at w
  refine g_istore 125 rfl C dJ1_resize_123 (by decide) (rfl : _ = [some (vR [2, 3] _), some (vR [51] _), some (vI _), none, some (vI _), some (vI _), none, none, none, none, none, none, none, none]) ?_
  refine g_sub [some none, some none, some none, none, some none, some none, none, none, none, none, none, none, none, none] [] rfl rfl ?_
  exact wk_J1_resize_b125 C Rr N _ _ _ _ _ _ w
def wp_J1_resize_b121 (K : Option Nat → Hp → Prop) (h : Hp) (l0 : Option Nat) (l1 : Option Nat) (l2 : Int32) (l4 : Int32) : Prop :=
  (wp_J1_resize_b123 K h l0 l1 l2 l4 (2147483647 : Int32))
set_option maxHeartbeats 4000000 in
theorem wk_J1_resize_b121 {X : Fx} {K : Option Nat → Hp → Prop} (C : Cx X cJ1_resize yJ1_resize.cls 14 7) (Rr : Rx X (Option.some (Jvm.ClassFile.FieldType.array (Jvm.ClassFile.FieldType.object "java/util/HashMap$Node"))) (pR [51] K)) (N : Nm X yJ1_resize.name) (h : Hp) (l0 : Option Nat) (l1 : Option Nat) (l2 : Int32) (l4 : Int32) (w : wp_J1_resize_b121 K h l0 l1 l2 l4) : Gd X h 121 [some (vR [2, 3] l0), some (vR [51] l1), some (vI l2), none, some (vI l4), none, none, none, none, none, none, none, none, none] [] := by
  unfold wp_J1_resize_b121 at w
  refine g_ldc 123 rfl C dJ1_resize_121 q218 ?_
  refine g_sub [some none, some none, some none, none, some none, none, none, none, none, none, none, none, none, none] [none] rfl rfl ?_
  exact wk_J1_resize_b123 C Rr N _ _ _ _ _ _ w
def wp_J1_resize_b85 (K : Option Nat → Hp → Prop) (h : Hp) (l0 : Option Nat) (l1 : Option Nat) (l2 : Int32) (l4 : Int32) (l5 : Int32) : Prop :=
  ((¬ l5 = 0 → (wp_J1_resize_b125 K h l0 l1 l2 l4 l5)) ∧ (l5 = 0 → (∃ a215, l0 = some a215 ∧ (vf_n32 (FP.fmul (FP.i2f l4) ((it h 18 a215).toUInt32)) ∧ (((1073741824 : Int32) ≤ l4 → (wp_J1_resize_b121 K h l0 l1 l2 l4)) ∧ (¬ (1073741824 : Int32) ≤ l4 → ((0 ≤ (Op.cmpValue (FP.fcmp (FP.fmul (FP.i2f l4) ((it h 18 a215).toUInt32)) (1317011456 : UInt32)) .g) → (wp_J1_resize_b121 K h l0 l1 l2 l4)) ∧ (¬ 0 ≤ (Op.cmpValue (FP.fcmp (FP.fmul (FP.i2f l4) ((it h 18 a215).toUInt32)) (1317011456 : UInt32)) .g) → (wp_J1_resize_b123 K h l0 l1 l2 l4 (FP.f2i (FP.fmul (FP.i2f l4) ((it h 18 a215).toUInt32))))))))))))
set_option maxHeartbeats 4000000 in
theorem wk_J1_resize_b85 {X : Fx} {K : Option Nat → Hp → Prop} (C : Cx X cJ1_resize yJ1_resize.cls 14 7) (Rr : Rx X (Option.some (Jvm.ClassFile.FieldType.array (Jvm.ClassFile.FieldType.object "java/util/HashMap$Node"))) (pR [51] K)) (N : Nm X yJ1_resize.name) (h : Hp) (l0 : Option Nat) (l1 : Option Nat) (l2 : Int32) (l4 : Int32) (l5 : Int32) (w : wp_J1_resize_b85 K h l0 l1 l2 l4 l5) : Gd X h 85 [some (vR [2, 3] l0), some (vR [51] l1), some (vI l2), none, some (vI l4), some (vI l5), none, none, none, none, none, none, none, none] [] := by
  unfold wp_J1_resize_b85 at w
  refine g_iload 87 rfl C dJ1_resize_85 rfl ?_
  refine g_if_ne 90 125 rfl C dJ1_resize_87 rfl (fun u214 => ?_) (fun u214 => ?_)
  · have w := w.1 u214
    refine g_sub [some none, some none, some none, none, some none, some none, none, none, none, none, none, none, none, none] [] rfl rfl ?_
    exact wk_J1_resize_b125 C Rr N _ _ _ _ _ _ w
  · have w := w.2 u214
    refine g_iload 92 rfl C dJ1_resize_90 rfl ?_
    refine g_i2f 93 rfl C dJ1_resize_92 ?_
    refine g_aload_n 94 rfl C dJ1_resize_93 rfl ?_
    obtain ⟨a215, e216, w⟩ := w
    refine g_getF 97 rfl C dJ1_resize_94 fl_HashMap_81 rfl e216 rfl ?_
    obtain ⟨e217, w⟩ := w
    refine g_fmul 98 rfl C dJ1_resize_97 e217 ?_
    refine g_fstore 100 rfl C dJ1_resize_98 (by decide) (rfl : _ = [some (vR [2, 3] _), some (vR [51] _), some (vI _), none, some (vI _), some (vI _), some (vF _), none, none, none, none, none, none, none]) ?_
    refine g_iload 102 rfl C dJ1_resize_100 rfl ?_
    refine g_ldc 104 rfl C dJ1_resize_102 q133 ?_
    refine g_icmp_ge 107 121 rfl C dJ1_resize_104 rfl (fun u218 => ?_) (fun u218 => ?_)
    · have w := w.1 u218
      refine g_sub [some none, some none, some none, none, some none, none, none, none, none, none, none, none, none, none] [] rfl rfl ?_
      exact wk_J1_resize_b121 C Rr N _ _ _ _ _ w
    · have w := w.2 u218
      refine g_fload 109 rfl C dJ1_resize_107 rfl ?_
      refine g_ldcf 111 rfl C dJ1_resize_109 q219 ?_
      refine g_fcmp 112 rfl C dJ1_resize_111 ?_
      refine g_if_ge 115 121 rfl C dJ1_resize_112 rfl (fun u219 => ?_) (fun u219 => ?_)
      · have w := w.1 u219
        refine g_sub [some none, some none, some none, none, some none, none, none, none, none, none, none, none, none, none] [] rfl rfl ?_
        exact wk_J1_resize_b121 C Rr N _ _ _ _ _ w
      · have w := w.2 u219
        refine g_fload 117 rfl C dJ1_resize_115 rfl ?_
        refine g_f2i 118 rfl C dJ1_resize_117 ?_
        refine g_goto 123 C dJ1_resize_118 rfl ?_
        refine g_sub [some none, some none, some none, none, some none, none, none, none, none, none, none, none, none, none] [none] rfl rfl ?_
        exact wk_J1_resize_b123 C Rr N _ _ _ _ _ _ w
def wp_J1_resize_b15 (K : Option Nat → Hp → Prop) (h : Hp) (l0 : Option Nat) (l1 : Option Nat) (s0 : Int32) : Prop :=
  (∃ a206, l0 = some a206 ∧ ((s0 ≤ 0 → (((it h 17 a206) ≤ 0 → (wp_J1_resize_b85 K h l0 l1 s0 16 12)) ∧ (¬ (it h 17 a206) ≤ 0 → (wp_J1_resize_b85 K h l0 l1 s0 (it h 17 a206) 0)))) ∧ (¬ s0 ≤ 0 → ((s0 < (1073741824 : Int32) → (((1073741824 : Int32) ≤ (s0 <<< (1 &&& 31)) → (wp_J1_resize_b85 K h l0 l1 s0 (s0 <<< (1 &&& 31)) 0)) ∧ (¬ (1073741824 : Int32) ≤ (s0 <<< (1 &&& 31)) → ((s0 < 16 → (wp_J1_resize_b85 K h l0 l1 s0 (s0 <<< (1 &&& 31)) 0)) ∧ (¬ s0 < 16 → (wp_J1_resize_b85 K h l0 l1 s0 (s0 <<< (1 &&& 31)) ((it h 17 a206) <<< (1 &&& 31)))))))) ∧ (¬ s0 < (1073741824 : Int32) → (∀ h213, h213 = wI h 17 a206 (2147483647 : Int32) → (K l1 h213)))))))
set_option maxHeartbeats 4000000 in
theorem wk_J1_resize_b15 {X : Fx} {K : Option Nat → Hp → Prop} (C : Cx X cJ1_resize yJ1_resize.cls 14 7) (Rr : Rx X (Option.some (Jvm.ClassFile.FieldType.array (Jvm.ClassFile.FieldType.object "java/util/HashMap$Node"))) (pR [51] K)) (N : Nm X yJ1_resize.name) (h : Hp) (l0 : Option Nat) (l1 : Option Nat) (s0 : Int32) (w : wp_J1_resize_b15 K h l0 l1 s0) : Gd X h 15 [some (vR [2, 3] l0), some (vR [51] l1), none, none, none, none, none, none, none, none, none, none, none, none] [vI s0] := by
  unfold wp_J1_resize_b15 at w
  refine g_istore_n 16 rfl C dJ1_resize_15 (by decide) (rfl : _ = [some (vR [2, 3] _), some (vR [51] _), some (vI _), none, none, none, none, none, none, none, none, none, none, none]) ?_
  refine g_aload_n 17 rfl C dJ1_resize_16 rfl ?_
  obtain ⟨a206, e207, w⟩ := w
  refine g_getI 20 rfl C dJ1_resize_17 fl_HashMap_88 rfl e207 rfl ?_
  refine g_istore_n 21 rfl C dJ1_resize_20 (by decide) (rfl : _ = [some (vR [2, 3] _), some (vR [51] _), some (vI _), some (vI _), none, none, none, none, none, none, none, none, none, none]) ?_
  refine g_iconst 22 rfl C dJ1_resize_21 0 rfl ?_
  refine g_istore 24 rfl C dJ1_resize_22 (by decide) (rfl : _ = [some (vR [2, 3] _), some (vR [51] _), some (vI _), some (vI _), none, some (vI _), none, none, none, none, none, none, none, none]) ?_
  refine g_iload_n 25 rfl C dJ1_resize_24 rfl ?_
  refine g_if_le 28 67 rfl C dJ1_resize_25 rfl (fun u208 => ?_) (fun u208 => ?_)
  · have w := w.1 u208
    refine g_iload_n 68 rfl C dJ1_resize_67 rfl ?_
    refine g_if_le 71 77 rfl C dJ1_resize_68 rfl (fun u209 => ?_) (fun u209 => ?_)
    · have w := w.1 u209
      refine g_bipush 79 rfl C dJ1_resize_77 16 (by decide) ?_
      refine g_istore 81 rfl C dJ1_resize_79 (by decide) (rfl : _ = [some (vR [2, 3] _), some (vR [51] _), some (vI _), some (vI _), some (vI _), some (vI _), none, none, none, none, none, none, none, none]) ?_
      refine g_bipush 83 rfl C dJ1_resize_81 12 (by decide) ?_
      refine g_istore 85 rfl C dJ1_resize_83 (by decide) (rfl : _ = [some (vR [2, 3] _), some (vR [51] _), some (vI _), some (vI _), some (vI _), some (vI _), none, none, none, none, none, none, none, none]) ?_
      refine g_sub [some none, some none, some none, none, some none, some none, none, none, none, none, none, none, none, none] [] rfl rfl ?_
      exact wk_J1_resize_b85 C Rr N _ _ _ _ _ _ w
    · have w := w.2 u209
      refine g_iload_n 72 rfl C dJ1_resize_71 rfl ?_
      refine g_istore 74 rfl C dJ1_resize_72 (by decide) (rfl : _ = [some (vR [2, 3] _), some (vR [51] _), some (vI _), some (vI _), some (vI _), some (vI _), none, none, none, none, none, none, none, none]) ?_
      refine g_goto 85 C dJ1_resize_74 rfl ?_
      refine g_sub [some none, some none, some none, none, some none, some none, none, none, none, none, none, none, none, none] [] rfl rfl ?_
      exact wk_J1_resize_b85 C Rr N _ _ _ _ _ _ w
  · have w := w.2 u208
    refine g_iload_n 29 rfl C dJ1_resize_28 rfl ?_
    refine g_ldc 31 rfl C dJ1_resize_29 q133 ?_
    refine g_icmp_lt 34 42 rfl C dJ1_resize_31 rfl (fun u210 => ?_) (fun u210 => ?_)
    · have w := w.1 u210
      refine g_iload_n 43 rfl C dJ1_resize_42 rfl ?_
      refine g_iconst 44 rfl C dJ1_resize_43 1 rfl ?_
      refine g_ishl 45 rfl C dJ1_resize_44 ?_
      refine g_dup 46 rfl C dJ1_resize_45 rfl ?_
      refine g_istore 48 rfl C dJ1_resize_46 (by decide) (rfl : _ = [some (vR [2, 3] _), some (vR [51] _), some (vI _), some (vI _), some (vI _), some (vI _), none, none, none, none, none, none, none, none]) ?_
      refine g_ldc 50 rfl C dJ1_resize_48 q133 ?_
      refine g_icmp_ge 53 85 rfl C dJ1_resize_50 rfl (fun u211 => ?_) (fun u211 => ?_)
      · have w := w.1 u211
        refine g_sub [some none, some none, some none, none, some none, some none, none, none, none, none, none, none, none, none] [] rfl rfl ?_
        exact wk_J1_resize_b85 C Rr N _ _ _ _ _ _ w
      · have w := w.2 u211
        refine g_iload_n 54 rfl C dJ1_resize_53 rfl ?_
        refine g_bipush 56 rfl C dJ1_resize_54 16 (by decide) ?_
        refine g_icmp_lt 59 85 rfl C dJ1_resize_56 rfl (fun u212 => ?_) (fun u212 => ?_)
        · have w := w.1 u212
          refine g_sub [some none, some none, some none, none, some none, some none, none, none, none, none, none, none, none, none] [] rfl rfl ?_
          exact wk_J1_resize_b85 C Rr N _ _ _ _ _ _ w
        · have w := w.2 u212
          refine g_iload_n 60 rfl C dJ1_resize_59 rfl ?_
          refine g_iconst 61 rfl C dJ1_resize_60 1 rfl ?_
          refine g_ishl 62 rfl C dJ1_resize_61 ?_
          refine g_istore 64 rfl C dJ1_resize_62 (by decide) (rfl : _ = [some (vR [2, 3] _), some (vR [51] _), some (vI _), some (vI _), some (vI _), some (vI _), none, none, none, none, none, none, none, none]) ?_
          refine g_goto 85 C dJ1_resize_64 rfl ?_
          refine g_sub [some none, some none, some none, none, some none, some none, none, none, none, none, none, none, none, none] [] rfl rfl ?_
          exact wk_J1_resize_b85 C Rr N _ _ _ _ _ _ w
    · have w := w.2 u210
      refine g_aload_n 35 rfl C dJ1_resize_34 rfl ?_
      refine g_ldc 37 rfl C dJ1_resize_35 q218 ?_
      refine g_putI 40 rfl C dJ1_resize_37 fl_HashMap_88 rfl rfl e207 rfl ?_
      have w := w _ rfl
      refine g_aload_n 41 rfl C dJ1_resize_40 rfl ?_
      exact g_areturn [51] C Rr rfl dJ1_resize_41 rfl ⟨_, rfl, w⟩
def wp_J1_resize (h : Hp) (x0 : Option Nat) (K : Option Nat → Hp → Prop) : Prop :=
  (∃ a172, x0 = some a172 ∧ (((rf h 13 a172) = none → (wp_J1_resize_b15 K h x0 (rf h 13 a172) 0)) ∧ (∀ a175, (rf h 13 a172) = some a175 → (ln h a175 < 2 ^ 26 → (wp_J1_resize_b15 K h x0 (rf h 13 a172) (nI (ln h a175)))))))
set_option maxHeartbeats 4000000 in
theorem wk_J1_resize {X : Fx} {K : Option Nat → Hp → Prop} (C : Cx X cJ1_resize yJ1_resize.cls 14 7) (Rr : Rx X (Option.some (Jvm.ClassFile.FieldType.array (Jvm.ClassFile.FieldType.object "java/util/HashMap$Node"))) (pR [51] K)) (N : Nm X yJ1_resize.name) (h : Hp) (x0 : Option Nat) (w : wp_J1_resize h x0 K) : Gd X h 0 [some (vR [2, 3] x0), none, none, none, none, none, none, none, none, none, none, none, none, none] [] := by
  unfold wp_J1_resize at w
  refine g_aload_n 1 rfl C dJ1_resize_0 rfl ?_
  obtain ⟨a172, e173, w⟩ := w
  refine g_getR 4 rfl C dJ1_resize_1 fl_HashMap_105 rfl e173 rfl ?_
  refine g_astore_n 5 rfl C dJ1_resize_4 (by decide) (rfl : _ = [some (vR [2, 3] _), some (vR [51] _), none, none, none, none, none, none, none, none, none, none, none, none]) ?_
  refine g_aload_n 6 rfl C dJ1_resize_5 rfl ?_
  refine g_ifnonnull 9 13 rfl C dJ1_resize_6 rfl (fun a175 u174 => ?_) (fun u174 => ?_)
  · have w := w.2 a175 u174
    refine g_aload_n 14 rfl C dJ1_resize_13 rfl ?_
    refine g_alen 15 rfl C dJ1_resize_14 u174 rfl (fun u176 => ?_)
    have w := w u176
    refine g_sub [some none, some none, none, none, none, none, none, none, none, none, none, none, none, none] [none] rfl rfl ?_
    exact wk_J1_resize_b15 C Rr N _ _ _ _ w
  · have w := w.1 u174
    refine g_iconst 10 rfl C dJ1_resize_9 0 rfl ?_
    refine g_goto 15 C dJ1_resize_10 rfl ?_
    refine g_sub [some none, some none, none, none, none, none, none, none, none, none, none, none, none, none] [none] rfl rfl ?_
    exact wk_J1_resize_b15 C Rr N _ _ _ _ w
theorem ct_J1_resize {E : Gx} (GE : Glob E) {h : Hp} {x0 : Option Nat} {K : Option Nat → Hp → Prop} (w : wp_J1_resize h x0 K) : Ct E yJ1_resize cJ1_resize 14 (Option.some (Jvm.ClassFile.FieldType.array (Jvm.ClassFile.FieldType.object "java/util/HashMap$Node"))) 7 [vR [2, 3] x0] h (pR [51] K) :=
  Ct.of GE (by decide +kernel) (by simp [lvA, t2]) rfl (fun X hX C Rr N => wk_J1_resize C Rr N h x0 w)
def wp_J1_newNode (h : Hp) (x0 : Option Nat) (x1 : Int32) (x2 : Option Nat) (x3 : Option Nat) (x4 : Option Nat) (K : Option Nat → Hp → Prop) : Prop :=
  (Rm h 1 4 ∧ ∀ a12, kd h a12 = 0 → ∀ h13, h13 = nw h a12 5 0 → (wp_J6_init h13 (some a12) x1 x2 x3 x4 (fun h18 => Ex h13 h18 → (K (some a12) h18))))
set_option maxHeartbeats 4000000 in
theorem wk_J1_newNode {X : Fx} {K : Option Nat → Hp → Prop} (C : Cx X cJ1_newNode yJ1_newNode.cls 5 3) (Rr : Rx X (Option.some (Jvm.ClassFile.FieldType.object "java/util/HashMap$Node")) (pR [5, 6, 7] K)) (N : Nm X yJ1_newNode.name) (h : Hp) (x0 : Option Nat) (x1 : Int32) (x2 : Option Nat) (x3 : Option Nat) (x4 : Option Nat) (w : wp_J1_newNode h x0 x1 x2 x3 x4 K) : Gd X h 0 [some (vR [2, 3] x0), some (vI x1), some (vR [4, 60] x2), some (vR [4, 60] x3), some (vR [5, 6, 7] x4)] [] := by
  unfold wp_J1_newNode at w
  obtain ⟨r14, w⟩ := w
  refine g_new 5 3 rfl C dJ1_newNode_0 rfl q220 q299 q19 r14 (fun a12 z15 => ?_)
  have w := w a12 z15 _ rfl
  refine g_dup 4 rfl C dJ1_newNode_3 rfl ?_
  refine g_iload_n 5 rfl C dJ1_newNode_4 rfl ?_
  refine g_aload_n 6 rfl C dJ1_newNode_5 rfl ?_
  refine g_aload_n 7 rfl C dJ1_newNode_6 rfl ?_
  refine g_aload 9 rfl C dJ1_newNode_7 rfl ?_
  refine g_sub [some none, some none, some none, some none, some none] [none, none, none, none, some [5, 6, 7]] rfl rfl ?_
  refine g_callI (As := [vI _, vR [4, 60] _, vR [4, 60] _, vR [5, 6, 7] _]) (T := [5, 6, 7]) (st := [vR [5] _]) 12 rfl C dJ1_newNode_9 q300 q245 q19 q246 rfl okn_6a5659 (by decide) (by decide) (Nat.le_of_ble_eq_true rfl) rfl rfl (ct_J6_init C.glob w) (fun r0 h18 p19 x20 _ => ?_)
  obtain ⟨rfl, w⟩ := p19
  have w := w x20
  change Gd _ _ _ _ [vR [5] _]
  exact g_areturn [5, 6, 7] C Rr rfl dJ1_newNode_12 rfl ⟨_, rfl, w⟩
theorem ct_J1_newNode {E : Gx} (GE : Glob E) {h : Hp} {x0 : Option Nat} {x1 : Int32} {x2 : Option Nat} {x3 : Option Nat} {x4 : Option Nat} {K : Option Nat → Hp → Prop} (w : wp_J1_newNode h x0 x1 x2 x3 x4 K) : Ct E yJ1_newNode cJ1_newNode 5 (Option.some (Jvm.ClassFile.FieldType.object "java/util/HashMap$Node")) 3 [vR [2, 3] x0, vI x1, vR [4, 60] x2, vR [4, 60] x3, vR [5, 6, 7] x4] h (pR [5, 6, 7] K) :=
  Ct.of GE (by decide +kernel) (by simp [lvA, t2]) rfl (fun X hX C Rr N => wk_J1_newNode C Rr N h x0 x1 x2 x3 x4 w)
def wp_J8_init (h : Hp) (x0 : Option Nat) (x1 : Int32) (x2 : Option Nat) (x3 : Option Nat) (x4 : Option Nat) (K : Hp → Prop) : Prop :=
  (∃ a8, x0 = some a8 ∧ (wp_J7_init h x0 x1 x2 x3 x4 (fun h12 => Ex h h12 → (K h12))))
set_option maxHeartbeats 4000000 in
theorem wk_J8_init {X : Fx} {K : Hp → Prop} (C : Cx X cJ8_init yJ8_init.cls 5 4) (Rr : Rx X (Option.none : Option Jvm.ClassFile.FieldType) (pV K)) (N : Nm X yJ8_init.name) (h : Hp) (x0 : Option Nat) (x1 : Int32) (x2 : Option Nat) (x3 : Option Nat) (x4 : Option Nat) (w : wp_J8_init h x0 x1 x2 x3 x4 K) : Gd X h 0 [some (vR [7] x0), some (vI x1), some (vR [4, 60] x2), some (vR [4, 60] x3), some (vR [5, 6, 7] x4)] [] := by
  unfold wp_J8_init at w
  refine g_aload_n 1 rfl C dJ8_init_0 rfl ?_
  refine g_iload_n 2 rfl C dJ8_init_1 rfl ?_
  refine g_aload_n 3 rfl C dJ8_init_2 rfl ?_
  refine g_aload_n 4 rfl C dJ8_init_3 rfl ?_
  refine g_aload 6 rfl C dJ8_init_4 rfl ?_
  obtain ⟨a8, e9, w⟩ := w
  refine g_sub [some none, some none, some none, some none, some none] [none, none, none, none, some [6, 7]] rfl rfl ?_
  refine g_callI (As := [vI _, vR [4, 60] _, vR [4, 60] _, vR [5, 6, 7] _]) (T := [6, 7]) (st := []) 9 rfl C dJ8_init_6 q421 q242 q20 q243 rfl okn_2abc05 (by decide) (by decide) (Nat.le_of_ble_eq_true rfl) e9 rfl (ct_J7_init C.glob w) (fun r0 h12 p13 x14 _ => ?_)
  obtain ⟨rfl, w⟩ := p13
  have w := w x14
  change Gd _ _ _ _ []
  exact g_vreturn C Rr dJ8_init_9 ⟨rfl, w⟩
theorem ct_J8_init {E : Gx} (GE : Glob E) {h : Hp} {x0 : Option Nat} {x1 : Int32} {x2 : Option Nat} {x3 : Option Nat} {x4 : Option Nat} {K : Hp → Prop} (w : wp_J8_init h x0 x1 x2 x3 x4 K) : Ct E yJ8_init cJ8_init 5 (Option.none : Option Jvm.ClassFile.FieldType) 4 [vR [7] x0, vI x1, vR [4, 60] x2, vR [4, 60] x3, vR [5, 6, 7] x4] h (pV K) :=
  Ct.of GE (by decide +kernel) (by simp [lvA, t2]) rfl (fun X hX C Rr N => wk_J8_init C Rr N h x0 x1 x2 x3 x4 w)
def wp_J1_replacementTreeNode (h : Hp) (x0 : Option Nat) (x1 : Option Nat) (x2 : Option Nat) (K : Option Nat → Hp → Prop) : Prop :=
  (Rm h 1 11 ∧ ∀ a18, kd h a18 = 0 → ∀ h19, h19 = nw h a18 7 0 → (∃ a22, x1 = some a22 ∧ (wp_J8_init h19 (some a18) (it h19 0 a22) (rf h19 1 a22) (rf h19 2 a22) x2 (fun h26 => Ex h19 h26 → (K (some a18) h26)))))
set_option maxHeartbeats 4000000 in
theorem wk_J1_replacementTreeNode {X : Fx} {K : Option Nat → Hp → Prop} (C : Cx X cJ1_replacementTreeNode yJ1_replacementTreeNode.cls 3 5) (Rr : Rx X (Option.some (Jvm.ClassFile.FieldType.object "java/util/HashMap$TreeNode")) (pR [7] K)) (N : Nm X yJ1_replacementTreeNode.name) (h : Hp) (x0 : Option Nat) (x1 : Option Nat) (x2 : Option Nat) (w : wp_J1_replacementTreeNode h x0 x1 x2 K) : Gd X h 0 [some (vR [2, 3] x0), some (vR [5, 6, 7] x1), some (vR [5, 6, 7] x2)] [] := by
  unfold wp_J1_replacementTreeNode at w
  obtain ⟨r20, w⟩ := w
  refine g_new 7 3 rfl C dJ1_replacementTreeNode_0 rfl q222 q417 q21 r20 (fun a18 z21 => ?_)
  have w := w a18 z21 _ rfl
  refine g_dup 4 rfl C dJ1_replacementTreeNode_3 rfl ?_
  refine g_aload_n 5 rfl C dJ1_replacementTreeNode_4 rfl ?_
  obtain ⟨a22, e23, w⟩ := w
  refine g_getI 8 rfl C dJ1_replacementTreeNode_5 fl_HashMap_168 rfl e23 rfl ?_
  refine g_aload_n 9 rfl C dJ1_replacementTreeNode_8 rfl ?_
  refine g_getR 12 rfl C dJ1_replacementTreeNode_9 fl_HashMap_170 rfl e23 rfl ?_
  refine g_aload_n 13 rfl C dJ1_replacementTreeNode_12 rfl ?_
  refine g_getR 16 rfl C dJ1_replacementTreeNode_13 fl_HashMap_162 rfl e23 rfl ?_
  refine g_aload_n 17 rfl C dJ1_replacementTreeNode_16 rfl ?_
  refine g_callI (As := [vI _, vR [4, 60] _, vR [4, 60] _, vR [5, 6, 7] _]) (T := [7]) (st := [vR [7] _]) 20 rfl C dJ1_replacementTreeNode_17 q446 q419 q21 q420 rfl okn_63fed0 (by decide) (by decide) (Nat.le_of_ble_eq_true rfl) rfl rfl (ct_J8_init C.glob w) (fun r0 h26 p27 x28 _ => ?_)
  obtain ⟨rfl, w⟩ := p27
  have w := w x28
  change Gd _ _ _ _ [vR [7] _]
  exact g_areturn [7] C Rr rfl dJ1_replacementTreeNode_20 rfl ⟨_, rfl, w⟩
theorem ct_J1_replacementTreeNode {E : Gx} (GE : Glob E) {h : Hp} {x0 : Option Nat} {x1 : Option Nat} {x2 : Option Nat} {K : Option Nat → Hp → Prop} (w : wp_J1_replacementTreeNode h x0 x1 x2 K) : Ct E yJ1_replacementTreeNode cJ1_replacementTreeNode 3 (Option.some (Jvm.ClassFile.FieldType.object "java/util/HashMap$TreeNode")) 5 [vR [2, 3] x0, vR [5, 6, 7] x1, vR [5, 6, 7] x2] h (pR [7] K) :=
  Ct.of GE (by decide +kernel) (by simp [lvA, t2]) rfl (fun X hX C Rr N => wk_J1_replacementTreeNode C Rr N h x0 x1 x2 w)
def wp_J2_replacementTreeNode (h : Hp) (x0 : Option Nat) (x1 : Option Nat) (x2 : Option Nat) (K : Option Nat → Hp → Prop) : Prop :=
  ((∀ a, x1 = some a → kd h a ∈ [6, 7]) ∧ (Rm h 1 11 ∧ ∀ a27, kd h a27 = 0 → ∀ h28, h28 = nw h a27 7 0 → (∃ a31, x1 = some a31 ∧ (wp_J8_init h28 (some a27) (it h28 0 a31) (rf h28 1 a31) (rf h28 2 a31) x2 (fun h35 => Ex h28 h35 → (∃ a38, x0 = some a38 ∧ (wp_J2_transferLinks h35 x0 x1 (some a27) (fun h42 => Ex h35 h42 → (K (some a27) h42)))))))))
set_option maxHeartbeats 4000000 in
theorem wk_J2_replacementTreeNode {X : Fx} {K : Option Nat → Hp → Prop} (C : Cx X cJ2_replacementTreeNode yJ2_replacementTreeNode.cls 5 5) (Rr : Rx X (Option.some (Jvm.ClassFile.FieldType.object "java/util/HashMap$TreeNode")) (pR [7] K)) (N : Nm X yJ2_replacementTreeNode.name) (h : Hp) (x0 : Option Nat) (x1 : Option Nat) (x2 : Option Nat) (w : wp_J2_replacementTreeNode h x0 x1 x2 K) : Gd X h 0 [some (vR [3] x0), some (vR [5, 6, 7] x1), some (vR [5, 6, 7] x2), none, none] [] := by
  unfold wp_J2_replacementTreeNode at w
  refine g_aload_n 1 rfl C dJ2_replacementTreeNode_0 rfl ?_
  obtain ⟨k26, w⟩ := w
  refine g_cast [6, 7] 4 rfl C dJ2_replacementTreeNode_1 q239 co_LinkedHashMap_Entry_6_7 (fun a q _ => k26 a q) ?_
  refine g_astore_n 5 rfl C dJ2_replacementTreeNode_4 (by decide) (rfl : _ = [some (vR [3] _), some (vR [5, 6, 7] _), some (vR [5, 6, 7] _), some (vR [6, 7] _), none]) ?_
  obtain ⟨r29, w⟩ := w
  refine g_new 7 8 rfl C dJ2_replacementTreeNode_5 rfl q416 q417 q21 r29 (fun a27 z30 => ?_)
  have w := w a27 z30 _ rfl
  refine g_dup 9 rfl C dJ2_replacementTreeNode_8 rfl ?_
  refine g_aload_n 10 rfl C dJ2_replacementTreeNode_9 rfl ?_
  obtain ⟨a31, e32, w⟩ := w
  refine g_getI 13 rfl C dJ2_replacementTreeNode_10 fl_LinkedHashMap_36 rfl e32 rfl ?_
  refine g_aload_n 14 rfl C dJ2_replacementTreeNode_13 rfl ?_
  refine g_getR 17 rfl C dJ2_replacementTreeNode_14 fl_LinkedHashMap_39 rfl e32 rfl ?_
  refine g_aload_n 18 rfl C dJ2_replacementTreeNode_17 rfl ?_
  refine g_getR 21 rfl C dJ2_replacementTreeNode_18 fl_LinkedHashMap_43 rfl e32 rfl ?_
  refine g_aload_n 22 rfl C dJ2_replacementTreeNode_21 rfl ?_
  refine g_callI (As := [vI _, vR [4, 60] _, vR [4, 60] _, vR [5, 6, 7] _]) (T := [7]) (st := [vR [7] _]) 25 rfl C dJ2_replacementTreeNode_22 q418 q419 q21 q420 rfl okn_63fed0 (by decide) (by decide) (Nat.le_of_ble_eq_true rfl) rfl rfl (ct_J8_init C.glob w) (fun r0 h35 p36 x37 _ => ?_)
  obtain ⟨rfl, w⟩ := p36
  have w := w x37
  change Gd _ _ _ _ [vR [7] _]
  refine g_astore 27 rfl C dJ2_replacementTreeNode_25 (by decide) (rfl : _ = [some (vR [3] _), some (vR [5, 6, 7] _), some (vR [5, 6, 7] _), some (vR [6, 7] _), some (vR [7] _)]) ?_
  refine g_aload_n 28 rfl C dJ2_replacementTreeNode_27 rfl ?_
  refine g_aload_n 29 rfl C dJ2_replacementTreeNode_28 rfl ?_
  refine g_aload 31 rfl C dJ2_replacementTreeNode_29 rfl ?_
  obtain ⟨a38, e39, w⟩ := w
  refine g_sub [some none, some none, some none, some none, some none] [some [6, 7], none, none] rfl rfl ?_
  refine g_callV (As := [vR [6, 7] _, vR [6, 7] _]) (T := [3]) (st := []) "java/util/LinkedHashMap" 34 rfl C dJ2_replacementTreeNode_31 q294 q296 qs1 q12 q297 rfl okn_dad909 (by decide) (by decide) (Nat.le_of_ble_eq_true rfl) e39 (fun q => tC rfl q) rfl (ct_J2_transferLinks C.glob w) (fun r0 h42 p43 x44 _ => ?_)
  obtain ⟨rfl, w⟩ := p43
  have w := w x44
  change Gd _ _ _ _ []
  refine g_aload 36 rfl C dJ2_replacementTreeNode_34 rfl ?_
  exact g_areturn [7] C Rr rfl dJ2_replacementTreeNode_36 rfl ⟨_, rfl, w⟩
theorem ct_J2_replacementTreeNode {E : Gx} (GE : Glob E) {h : Hp} {x0 : Option Nat} {x1 : Option Nat} {x2 : Option Nat} {K : Option Nat → Hp → Prop} (w : wp_J2_replacementTreeNode h x0 x1 x2 K) : Ct E yJ2_replacementTreeNode cJ2_replacementTreeNode 5 (Option.some (Jvm.ClassFile.FieldType.object "java/util/HashMap$TreeNode")) 5 [vR [3] x0, vR [5, 6, 7] x1, vR [5, 6, 7] x2] h (pR [7] K) :=
  Ct.of GE (by decide +kernel) (by simp [lvA, t2]) rfl (fun X hX C Rr N => wk_J2_replacementTreeNode C Rr N h x0 x1 x2 w)
def wp_J1_treeifyBin_b109 (K : Hp → Prop) (h : Hp)  : Prop :=
  (K h)
set_option maxHeartbeats 4000000 in
theorem wk_J1_treeifyBin_b109 {X : Fx} {K : Hp → Prop} (C : Cx X cJ1_treeifyBin yJ1_treeifyBin.cls 9 8) (Rr : Rx X (Option.none : Option Jvm.ClassFile.FieldType) (pV K)) (N : Nm X yJ1_treeifyBin.name) (h : Hp)  (w : wp_J1_treeifyBin_b109 K h ) : Gd X h 109 [none, none, none, none, none, none, none, none, none] [] := by
  unfold wp_J1_treeifyBin_b109 at w
  exact g_vreturn C Rr dJ1_treeifyBin_109 ⟨rfl, w⟩
def wp_J1_treeifyBin_b17 (K : Hp → Prop) (h : Hp) (s0 : Option Nat) : Prop :=
  (wp_J1_treeifyBin_b109 K h)
set_option maxHeartbeats 4000000 in
theorem wk_J1_treeifyBin_b17 {X : Fx} {K : Hp → Prop} (C : Cx X cJ1_treeifyBin yJ1_treeifyBin.cls 9 8) (Rr : Rx X (Option.none : Option Jvm.ClassFile.FieldType) (pV K)) (N : Nm X yJ1_treeifyBin.name) (h : Hp) (s0 : Option Nat) (w : wp_J1_treeifyBin_b17 K h s0) : Gd X h 17 [none, none, none, none, none, none, none, none, none] [vR [51] s0] := by
  unfold wp_J1_treeifyBin_b17 at w
  refine g_pop 18 rfl C dJ1_treeifyBin_17 rfl ?_
  refine g_goto 109 C dJ1_treeifyBin_18 rfl ?_
  refine g_sub [none, none, none, none, none, none, none, none, none] [] rfl rfl ?_
  exact wk_J1_treeifyBin_b109 C Rr N _ w
def wp_J1_treeifyBin_b13 (K : Hp → Prop) (h : Hp) (l0 : Option Nat) : Prop :=
  (∃ a139, l0 = some a139 ∧ (wp_J1_resize h l0 (fun r142 h143 => Ex h h143 → (wp_J1_treeifyBin_b17 K h143 r142))))
set_option maxHeartbeats 4000000 in
theorem wk_J1_treeifyBin_b13 {X : Fx} {K : Hp → Prop} (C : Cx X cJ1_treeifyBin yJ1_treeifyBin.cls 9 8) (Rr : Rx X (Option.none : Option Jvm.ClassFile.FieldType) (pV K)) (N : Nm X yJ1_treeifyBin.name) (h : Hp) (l0 : Option Nat) (w : wp_J1_treeifyBin_b13 K h l0) : Gd X h 13 [some (vR [2, 3] l0), none, none, none, none, none, none, none, none] [] := by
  unfold wp_J1_treeifyBin_b13 at w
  refine g_aload_n 14 rfl C dJ1_treeifyBin_13 rfl ?_
  obtain ⟨a139, e140, w⟩ := w
  refine g_known 0 rfl e140 (fun k141 => ?_)
  have k141 : kd _ _ ∈ [2, 3] := k141
  simp only [List.mem_cons, List.not_mem_nil, or_false] at k141
  rcases k141 with k141 | k141
  · refine g_callU (As := []) (T := [2, 3]) (st := []) "java/util/HashMap" 17 rfl C dJ1_treeifyBin_14 q212 q215 dcl_c76c33 q214 q213 q11 q217 okn_4da807 (by decide) (by decide) (Nat.le_of_ble_eq_true rfl) e140 (fun _ => kC rfl k141) rfl (ct_J1_resize C.glob w) (fun r0 h143 p144 x145 _ => ?_)
    obtain ⟨r142, rfl, w⟩ := p144
    have w := w x145
    change Gd _ _ _ _ (vR [51] r142 :: [])
    refine g_sub [none, none, none, none, none, none, none, none, none] [none] rfl rfl ?_
    exact wk_J1_treeifyBin_b17 C Rr N _ _ w
  · refine g_callU (As := []) (T := [2, 3]) (st := []) "java/util/LinkedHashMap" 17 rfl C dJ1_treeifyBin_14 q212 q215 dcl_c76c33 q216 q213 q11 q217 okn_4da807 (by decide) (by decide) (Nat.le_of_ble_eq_true rfl) e140 (fun _ => kC rfl k141) rfl (ct_J1_resize C.glob w) (fun r0 h143 p144 x145 _ => ?_)
    obtain ⟨r142, rfl, w⟩ := p144
    have w := w x145
    change Gd _ _ _ _ (vR [51] r142 :: [])
    refine g_sub [none, none, none, none, none, none, none, none, none] [none] rfl rfl ?_
    exact wk_J1_treeifyBin_b17 C Rr N _ _ w
def wp_J1_treeifyBin_b78 (G43 : Hp → Option Nat → Option Nat → Int32 → Option Nat → Option Nat → Option Nat → Prop) (K : Hp → Prop) (h : Hp) (l0 : Option Nat) (l1 : Option Nat) (l4 : Int32) (l5 : Option Nat) (l6 : Option Nat) (l8 : Option Nat) : Prop :=
  (∃ a146, l5 = some a146 ∧ (((rf h 3 a146) = none → (∃ a150, l1 = some a150 ∧ (∃ j152, l4 = nI j152 ∧ j152 < ln h a150 ∧ ∀ h155, h155 = wR h (100 + j152) a150 l6 → ((l6 = none → (wp_J1_treeifyBin_b109 K h155)) ∧ (∀ a157, l6 = some a157 → (wp_J8_treeify h155 l6 l1 (fun h160 => Ex h155 h160 → (wp_J1_treeifyBin_b109 K h160)))))))) ∧ (∀ a149, (rf h 3 a146) = some a149 → (G43 h l0 l1 l4 (rf h 3 a146) l6 l8))))
set_option maxHeartbeats 4000000 in
theorem wk_J1_treeifyBin_b78 {X : Fx} {K : Hp → Prop} (C : Cx X cJ1_treeifyBin yJ1_treeifyBin.cls 9 8) (Rr : Rx X (Option.none : Option Jvm.ClassFile.FieldType) (pV K)) (N : Nm X yJ1_treeifyBin.name) {G43 : Hp → Option Nat → Option Nat → Int32 → Option Nat → Option Nat → Option Nat → Prop} (k43 : ∀ (h : Hp) (l0 : Option Nat) (l1 : Option Nat) (l4 : Int32) (l5 : Option Nat) (l6 : Option Nat) (l7 : Option Nat), G43 h l0 l1 l4 l5 l6 l7 → Gd X h 43 [some (vR [2, 3] l0), some (vR [51] l1), none, none, some (vI l4), some (vR [5, 6, 7] l5), some (vR [7] l6), some (vR [7] l7), none] []) (h : Hp) (l0 : Option Nat) (l1 : Option Nat) (l4 : Int32) (l5 : Option Nat) (l6 : Option Nat) (l8 : Option Nat) (w : wp_J1_treeifyBin_b78 G43 K h l0 l1 l4 l5 l6 l8) : Gd X h 78 [some (vR [2, 3] l0), some (vR [51] l1), none, none, some (vI l4), some (vR [5, 6, 7] l5), some (vR [7] l6), none, some (vR [7] l8)] [] := by
  unfold wp_J1_treeifyBin_b78 at w
  refine g_aload 80 rfl C dJ1_treeifyBin_78 rfl ?_
  refine g_astore 82 rfl C dJ1_treeifyBin_80 (by decide) (rfl : _ = [some (vR [2, 3] _), some (vR [51] _), none, none, some (vI _), some (vR [5, 6, 7] _), some (vR [7] _), some (vR [7] _), some (vR [7] _)]) ?_
  refine g_aload 84 rfl C dJ1_treeifyBin_82 rfl ?_
  obtain ⟨a146, e147, w⟩ := w
  refine g_getR 87 rfl C dJ1_treeifyBin_84 fl_HashMap_177 rfl e147 rfl ?_
  refine g_dup 88 rfl C dJ1_treeifyBin_87 rfl ?_
  refine g_astore 90 rfl C dJ1_treeifyBin_88 (by decide) (rfl : _ = [some (vR [2, 3] _), some (vR [51] _), none, none, some (vI _), some (vR [5, 6, 7] _), some (vR [7] _), some (vR [7] _), some (vR [7] _)]) ?_
  refine g_ifnonnull 93 43 rfl C dJ1_treeifyBin_90 rfl (fun a149 u148 => ?_) (fun u148 => ?_)
  · have w := w.2 a149 u148
    refine g_sub [some none, some none, none, none, some none, some none, some none, some none, none] [] rfl rfl ?_
    exact k43 _ _ _ _ _ _ _ w
  · have w := w.1 u148
    refine g_aload_n 94 rfl C dJ1_treeifyBin_93 rfl ?_
    refine g_iload 96 rfl C dJ1_treeifyBin_94 rfl ?_
    refine g_aload 98 rfl C dJ1_treeifyBin_96 rfl ?_
    refine g_dup_x2 99 rfl C dJ1_treeifyBin_98 rfl rfl rfl ?_
    obtain ⟨a150, e151, w⟩ := w
    obtain ⟨j152, e153, e154, w⟩ := w
    refine g_aastore 51 100 rfl C dJ1_treeifyBin_99 (by decide) rfl e151 e153 e154 ?_
    have w := w _ rfl
    refine g_ifnull 103 109 rfl C dJ1_treeifyBin_100 rfl (fun u156 => ?_) (fun a157 u156 => ?_)
    · have w := w.1 u156
      refine g_sub [none, none, none, none, none, none, none, none, none] [] rfl rfl ?_
      exact wk_J1_treeifyBin_b109 C Rr N _ w
    · have w := w.2 a157 u156
      refine g_aload 105 rfl C dJ1_treeifyBin_103 rfl ?_
      refine g_aload_n 106 rfl C dJ1_treeifyBin_105 rfl ?_
      refine g_callV (As := [vR [51] _]) (T := [7]) (st := []) "java/util/HashMap$TreeNode" 109 rfl C dJ1_treeifyBin_106 q461 q307 q308 q21 q309 rfl okn_e8f23f (by decide) (by decide) (Nat.le_of_ble_eq_true rfl) u156 (fun q => tC rfl q) rfl (ct_J8_treeify C.glob w) (fun r0 h160 p161 x162 _ => ?_)
      obtain ⟨rfl, w⟩ := p161
      have w := w x162
      change Gd _ _ _ _ []
      refine g_sub [none, none, none, none, none, none, none, none, none] [] rfl rfl ?_
      exact wk_J1_treeifyBin_b109 C Rr N _ w
def wp_J1_treeifyBin_b50 (G43 : Hp → Option Nat → Option Nat → Int32 → Option Nat → Option Nat → Option Nat → Prop) (K : Hp → Prop) (h : Hp) (l0 : Option Nat) (l1 : Option Nat) (l4 : Int32) (l5 : Option Nat) (l6 : Option Nat) (l7 : Option Nat) (s0 : Option Nat) : Prop :=
  ((l7 = none → (wp_J1_treeifyBin_b78 G43 K h l0 l1 l4 l5 s0 s0)) ∧ (∀ a120, l7 = some a120 → (∃ a121, s0 = some a121 ∧ (∀ h123, h123 = wR h 9 a121 l7 → (∀ h124, h124 = wR h123 3 a120 s0 → (wp_J1_treeifyBin_b78 G43 K h124 l0 l1 l4 l5 l6 s0))))))
set_option maxHeartbeats 4000000 in
theorem wk_J1_treeifyBin_b50 {X : Fx} {K : Hp → Prop} (C : Cx X cJ1_treeifyBin yJ1_treeifyBin.cls 9 8) (Rr : Rx X (Option.none : Option Jvm.ClassFile.FieldType) (pV K)) (N : Nm X yJ1_treeifyBin.name) {G43 : Hp → Option Nat → Option Nat → Int32 → Option Nat → Option Nat → Option Nat → Prop} (k43 : ∀ (h : Hp) (l0 : Option Nat) (l1 : Option Nat) (l4 : Int32) (l5 : Option Nat) (l6 : Option Nat) (l7 : Option Nat), G43 h l0 l1 l4 l5 l6 l7 → Gd X h 43 [some (vR [2, 3] l0), some (vR [51] l1), none, none, some (vI l4), some (vR [5, 6, 7] l5), some (vR [7] l6), some (vR [7] l7), none] []) (h : Hp) (l0 : Option Nat) (l1 : Option Nat) (l4 : Int32) (l5 : Option Nat) (l6 : Option Nat) (l7 : Option Nat) (s0 : Option Nat) (w : wp_J1_treeifyBin_b50 G43 K h l0 l1 l4 l5 l6 l7 s0) : Gd X h 50 [some (vR [2, 3] l0), some (vR [51] l1), none, none, some (vI l4), some (vR [5, 6, 7] l5), some (vR [7] l6), some (vR [7] l7), none] [vR [7] s0] := by
  unfold wp_J1_treeifyBin_b50 at w
  refine g_astore 52 rfl C dJ1_treeifyBin_50 (by decide) (rfl : _ = [some (vR [2, 3] _), some (vR [51] _), none, none, some (vI _), some (vR [5, 6, 7] _), some (vR [7] _), some (vR [7] _), some (vR [7] _)]) ?_
  refine g_aload 54 rfl C dJ1_treeifyBin_52 rfl ?_
  refine g_ifnonnull 57 64 rfl C dJ1_treeifyBin_54 rfl (fun a120 u119 => ?_) (fun u119 => ?_)
  · have w := w.2 a120 u119
    refine g_aload 66 rfl C dJ1_treeifyBin_64 rfl ?_
    refine g_aload 68 rfl C dJ1_treeifyBin_66 rfl ?_
    obtain ⟨a121, e122, w⟩ := w
    refine g_putR 71 rfl C dJ1_treeifyBin_68 fl_HashMap_219 rfl rfl rfl e122 rfl ?_
    have w := w _ rfl
    refine g_aload 73 rfl C dJ1_treeifyBin_71 rfl ?_
    refine g_aload 75 rfl C dJ1_treeifyBin_73 rfl ?_
    refine g_putR 78 rfl C dJ1_treeifyBin_75 fl_HashMap_223 rfl rfl rfl u119 rfl ?_
    have w := w _ rfl
    refine g_sub [some none, some none, none, none, some none, some none, some none, none, some none] [] rfl rfl ?_
    exact wk_J1_treeifyBin_b78 C Rr N k43 _ _ _ _ _ _ _ w
  · have w := w.1 u119
    refine g_aload 59 rfl C dJ1_treeifyBin_57 rfl ?_
    refine g_astore 61 rfl C dJ1_treeifyBin_59 (by decide) (rfl : _ = [some (vR [2, 3] _), some (vR [51] _), none, none, some (vI _), some (vR [5, 6, 7] _), some (vR [7] _), some (vR [7] _), some (vR [7] _)]) ?_
    refine g_goto 78 C dJ1_treeifyBin_61 rfl ?_
    refine g_sub [some none, some none, none, none, some none, some none, some none, none, some none] [] rfl rfl ?_
    exact wk_J1_treeifyBin_b78 C Rr N k43 _ _ _ _ _ _ _ w
def wp_J1_treeifyBin_b43 (K : Hp → Prop) : Nat → Hp → Option Nat → Option Nat → Int32 → Option Nat → Option Nat → Option Nat → Prop
  | 0 => fun _ _ _ _ _ _ _ => False
  | m9 + 1 => fun h l0 l1 l4 l5 l6 l7 =>
    ((∃ a125, l0 = some a125 ∧ (kd h a125 = 2 ∧ (wp_J1_replacementTreeNode h l0 l5 none (fun r128 h129 => Ex h h129 → (wp_J1_treeifyBin_b50 (wp_J1_treeifyBin_b43 K m9) K h129 l0 l1 l4 l5 l6 l7 r128))))) ∨ (∃ a132, l0 = some a132 ∧ (kd h a132 = 3 ∧ (wp_J2_replacementTreeNode h l0 l5 none (fun r135 h136 => Ex h h136 → (wp_J1_treeifyBin_b50 (wp_J1_treeifyBin_b43 K m9) K h136 l0 l1 l4 l5 l6 l7 r135))))))
set_option maxHeartbeats 4000000 in
theorem wk_J1_treeifyBin_b43 {X : Fx} {K : Hp → Prop} (C : Cx X cJ1_treeifyBin yJ1_treeifyBin.cls 9 8) (Rr : Rx X (Option.none : Option Jvm.ClassFile.FieldType) (pV K)) (N : Nm X yJ1_treeifyBin.name) : ∀ (n : Nat) (h : Hp) (l0 : Option Nat) (l1 : Option Nat) (l4 : Int32) (l5 : Option Nat) (l6 : Option Nat) (l7 : Option Nat), wp_J1_treeifyBin_b43 K n h l0 l1 l4 l5 l6 l7 → Gd X h 43 [some (vR [2, 3] l0), some (vR [51] l1), none, none, some (vI l4), some (vR [5, 6, 7] l5), some (vR [7] l6), some (vR [7] l7), none] [] := by
  intro n
  induction n with
  | zero => intro h l0 l1 l4 l5 l6 l7 w; exact w.elim
  | succ n ih =>
    intro h l0 l1 l4 l5 l6 l7 w
    unfold wp_J1_treeifyBin_b43 at w
    refine g_aload_n 44 rfl C dJ1_treeifyBin_43 rfl ?_
    refine g_aload 46 rfl C dJ1_treeifyBin_44 rfl ?_
    refine g_null 47 rfl C dJ1_treeifyBin_46 ?_
    rcases w with w | w
    · obtain ⟨a125, e126, w⟩ := w
      obtain ⟨k127, w⟩ := w
      refine g_sub [some none, some none, none, none, some none, some none, some none, some none, none] [some [5, 6, 7], none, none] rfl rfl ?_
      refine g_callU (As := [vR [5, 6, 7] _, vR [5, 6, 7] _]) (T := [2, 3]) (st := []) "java/util/HashMap" 50 rfl C dJ1_treeifyBin_47 q453 q456 dcl_b5cbf1 q455 q454 q11 q460 okn_ecdbc7 (by decide) (by decide) (Nat.le_of_ble_eq_true rfl) e126 (fun _ => kC rfl k127) rfl (ct_J1_replacementTreeNode C.glob w) (fun r0 h129 p130 x131 _ => ?_)
      obtain ⟨r128, rfl, w⟩ := p130
      have w := w x131
      change Gd _ _ _ _ (vR [7] r128 :: [])
      refine g_sub [some none, some none, none, none, some none, some none, some none, some none, none] [none] rfl rfl ?_
      exact wk_J1_treeifyBin_b50 C Rr N ih _ _ _ _ _ _ _ _ w
    · obtain ⟨a132, e133, w⟩ := w
      obtain ⟨k134, w⟩ := w
      refine g_nar 2 [3] rfl e133 (by rw [k134]; decide) ?_
      refine g_sub [some none, some none, none, none, some none, some none, some none, some none, none] [some [5, 6, 7], none, none] rfl rfl ?_
      refine g_callU (As := [vR [5, 6, 7] _, vR [5, 6, 7] _]) (T := [3]) (st := []) "java/util/LinkedHashMap" 50 rfl C dJ1_treeifyBin_47 q453 q456 dcl_b5cbf1 q457 q458 q12 q459 okn_ecdbc7 (by decide) (by decide) (Nat.le_of_ble_eq_true rfl) e133 (fun _ => kC rfl k134) rfl (ct_J2_replacementTreeNode C.glob w) (fun r0 h136 p137 x138 _ => ?_)
      obtain ⟨r135, rfl, w⟩ := p137
      have w := w x138
      change Gd _ _ _ _ (vR [7] r135 :: [])
      refine g_sub [some none, some none, none, none, some none, some none, some none, some none, none] [none] rfl rfl ?_
      exact wk_J1_treeifyBin_b50 C Rr N ih _ _ _ _ _ _ _ _ w
def wp_J1_treeifyBin (h : Hp) (x0 : Option Nat) (x1 : Option Nat) (x2 : Int32) (K : Hp → Prop) : Prop :=
  ((x1 = none → (wp_J1_treeifyBin_b13 K h x0)) ∧ (∀ a111, x1 = some a111 → (ln h a111 < 2 ^ 26 → ((64 ≤ (nI (ln h a111)) → (∃ j114, (((nI (ln h a111)) - 1) &&& x2) = nI j114 ∧ j114 < ln h a111 ∧ (((rf h (100 + j114) a111) = none → (wp_J1_treeifyBin_b109 K h)) ∧ (∀ a118, (rf h (100 + j114) a111) = some a118 → (∃ n, wp_J1_treeifyBin_b43 K n h x0 x1 (((nI (ln h a111)) - 1) &&& x2) (rf h (100 + j114) a111) none none))))) ∧ (¬ 64 ≤ (nI (ln h a111)) → (wp_J1_treeifyBin_b13 K h x0))))))
set_option maxHeartbeats 4000000 in
theorem wk_J1_treeifyBin {X : Fx} {K : Hp → Prop} (C : Cx X cJ1_treeifyBin yJ1_treeifyBin.cls 9 8) (Rr : Rx X (Option.none : Option Jvm.ClassFile.FieldType) (pV K)) (N : Nm X yJ1_treeifyBin.name) (h : Hp) (x0 : Option Nat) (x1 : Option Nat) (x2 : Int32) (w : wp_J1_treeifyBin h x0 x1 x2 K) : Gd X h 0 [some (vR [2, 3] x0), some (vR [51] x1), some (vI x2), none, none, none, none, none, none] [] := by
  unfold wp_J1_treeifyBin at w
  refine g_aload_n 1 rfl C dJ1_treeifyBin_0 rfl ?_
  refine g_ifnull 4 13 rfl C dJ1_treeifyBin_1 rfl (fun u110 => ?_) (fun a111 u110 => ?_)
  · have w := w.1 u110
    refine g_sub [some none, none, none, none, none, none, none, none, none] [] rfl rfl ?_
    exact wk_J1_treeifyBin_b13 C Rr N _ _ w
  · have w := w.2 a111 u110
    refine g_aload_n 5 rfl C dJ1_treeifyBin_4 rfl ?_
    refine g_alen 6 rfl C dJ1_treeifyBin_5 u110 rfl (fun u112 => ?_)
    have w := w u112
    refine g_dup 7 rfl C dJ1_treeifyBin_6 rfl ?_
    refine g_istore_n 8 rfl C dJ1_treeifyBin_7 (by decide) (rfl : _ = [some (vR [2, 3] _), some (vR [51] _), some (vI _), some (vI _), none, none, none, none, none]) ?_
    refine g_bipush 10 rfl C dJ1_treeifyBin_8 64 (by decide) ?_
    refine g_icmp_ge 13 21 rfl C dJ1_treeifyBin_10 rfl (fun u113 => ?_) (fun u113 => ?_)
    · have w := w.1 u113
      refine g_aload_n 22 rfl C dJ1_treeifyBin_21 rfl ?_
      refine g_iload_n 23 rfl C dJ1_treeifyBin_22 rfl ?_
      refine g_iconst 24 rfl C dJ1_treeifyBin_23 1 rfl ?_
      refine g_isub 25 rfl C dJ1_treeifyBin_24 ?_
      refine g_iload_n 26 rfl C dJ1_treeifyBin_25 rfl ?_
      refine g_iand 27 rfl C dJ1_treeifyBin_26 ?_
      refine g_dup 28 rfl C dJ1_treeifyBin_27 rfl ?_
      refine g_istore 30 rfl C dJ1_treeifyBin_28 (by decide) (rfl : _ = [some (vR [2, 3] _), some (vR [51] _), some (vI _), some (vI _), some (vI _), none, none, none, none]) ?_
      obtain ⟨j114, e115, e116, w⟩ := w
      refine g_aaload 51 31 rfl C dJ1_treeifyBin_30 (by decide) u110 e115 e116 ?_
      refine g_dup 32 rfl C dJ1_treeifyBin_31 rfl ?_
      refine g_astore 34 rfl C dJ1_treeifyBin_32 (by decide) (rfl : _ = [some (vR [2, 3] _), some (vR [51] _), some (vI _), some (vI _), some (vI _), some (vR [5, 6, 7] _), none, none, none]) ?_
      refine g_ifnull 37 109 rfl C dJ1_treeifyBin_34 rfl (fun u117 => ?_) (fun a118 u117 => ?_)
      · have w := w.1 u117
        refine g_sub [none, none, none, none, none, none, none, none, none] [] rfl rfl ?_
        exact wk_J1_treeifyBin_b109 C Rr N _ w
      · have w := w.2 a118 u117
        refine g_null 38 rfl C dJ1_treeifyBin_37 ?_
        refine g_astore 40 rfl C dJ1_treeifyBin_38 (by decide) (rfl : _ = [some (vR [2, 3] _), some (vR [51] _), some (vI _), some (vI _), some (vI _), some (vR [5, 6, 7] _), some (vR [] _), none, none]) ?_
        refine g_null 41 rfl C dJ1_treeifyBin_40 ?_
        refine g_astore 43 rfl C dJ1_treeifyBin_41 (by decide) (rfl : _ = [some (vR [2, 3] _), some (vR [51] _), some (vI _), some (vI _), some (vI _), some (vR [5, 6, 7] _), some (vR [] _), some (vR [] _), none]) ?_
        refine g_sub [some none, some none, none, none, some none, some none, some (some [7]), some (some [7]), none] [] rfl rfl ?_
        obtain ⟨n9, w⟩ := w
        exact wk_J1_treeifyBin_b43 C Rr N n9 _ _ _ _ _ _ _ w
    · have w := w.2 u113
      refine g_sub [some none, none, none, none, none, none, none, none, none] [] rfl rfl ?_
      exact wk_J1_treeifyBin_b13 C Rr N _ _ w
theorem ct_J1_treeifyBin {E : Gx} (GE : Glob E) {h : Hp} {x0 : Option Nat} {x1 : Option Nat} {x2 : Int32} {K : Hp → Prop} (w : wp_J1_treeifyBin h x0 x1 x2 K) : Ct E yJ1_treeifyBin cJ1_treeifyBin 9 (Option.none : Option Jvm.ClassFile.FieldType) 8 [vR [2, 3] x0, vR [51] x1, vI x2] h (pV K) :=
  Ct.of GE (by decide +kernel) (by simp [lvA, t2]) rfl (fun X hX C Rr N => wk_J1_treeifyBin C Rr N h x0 x1 x2 w)
def wp_J1_afterNodeAccess (h : Hp) (x0 : Option Nat) (x1 : Option Nat) (K : Hp → Prop) : Prop :=
  (K h)
set_option maxHeartbeats 4000000 in
theorem wk_J1_afterNodeAccess {X : Fx} {K : Hp → Prop} (C : Cx X cJ1_afterNodeAccess yJ1_afterNodeAccess.cls 2 2) (Rr : Rx X (Option.none : Option Jvm.ClassFile.FieldType) (pV K)) (N : Nm X yJ1_afterNodeAccess.name) (h : Hp) (x0 : Option Nat) (x1 : Option Nat) (w : wp_J1_afterNodeAccess h x0 x1 K) : Gd X h 0 [some (vR [2, 3] x0), some (vR [5, 6, 7] x1)] [] := by
  unfold wp_J1_afterNodeAccess at w
  exact g_vreturn C Rr dJ1_afterNodeAccess_0 ⟨rfl, w⟩
theorem ct_J1_afterNodeAccess {E : Gx} (GE : Glob E) {h : Hp} {x0 : Option Nat} {x1 : Option Nat} {K : Hp → Prop} (w : wp_J1_afterNodeAccess h x0 x1 K) : Ct E yJ1_afterNodeAccess cJ1_afterNodeAccess 2 (Option.none : Option Jvm.ClassFile.FieldType) 2 [vR [2, 3] x0, vR [5, 6, 7] x1] h (pV K) :=
  Ct.of GE (by decide +kernel) (by simp [lvA, t2]) rfl (fun X hX C Rr N => wk_J1_afterNodeAccess C Rr N h x0 x1 w)
def wp_J1_afterNodeInsertion (h : Hp) (x0 : Option Nat) (x1 : Int32) (K : Hp → Prop) : Prop :=
  (K h)
set_option maxHeartbeats 4000000 in
theorem wk_J1_afterNodeInsertion {X : Fx} {K : Hp → Prop} (C : Cx X cJ1_afterNodeInsertion yJ1_afterNodeInsertion.cls 2 2) (Rr : Rx X (Option.none : Option Jvm.ClassFile.FieldType) (pV K)) (N : Nm X yJ1_afterNodeInsertion.name) (h : Hp) (x0 : Option Nat) (x1 : Int32) (w : wp_J1_afterNodeInsertion h x0 x1 K) : Gd X h 0 [some (vR [2, 3] x0), some (vI x1)] [] := by
  unfold wp_J1_afterNodeInsertion at w
  exact g_vreturn C Rr dJ1_afterNodeInsertion_0 ⟨rfl, w⟩
theorem ct_J1_afterNodeInsertion {E : Gx} (GE : Glob E) {h : Hp} {x0 : Option Nat} {x1 : Int32} {K : Hp → Prop} (w : wp_J1_afterNodeInsertion h x0 x1 K) : Ct E yJ1_afterNodeInsertion cJ1_afterNodeInsertion 2 (Option.none : Option Jvm.ClassFile.FieldType) 2 [vR [2, 3] x0, vI x1] h (pV K) :=
  Ct.of GE (by decide +kernel) (by simp [lvA, t2]) rfl (fun X hX C Rr N => wk_J1_afterNodeInsertion C Rr N h x0 x1 w)
def wp_J2_linkNodeAtEnd_b75 (K : Hp → Prop) (h : Hp)  : Prop :=
  (K h)
set_option maxHeartbeats 4000000 in
theorem wk_J2_linkNodeAtEnd_b75 {X : Fx} {K : Hp → Prop} (C : Cx X cJ2_linkNodeAtEnd yJ2_linkNodeAtEnd.cls 3 2) (Rr : Rx X (Option.none : Option Jvm.ClassFile.FieldType) (pV K)) (N : Nm X yJ2_linkNodeAtEnd.name) (h : Hp)  (w : wp_J2_linkNodeAtEnd_b75 K h ) : Gd X h 75 [none, none, none] [] := by
  unfold wp_J2_linkNodeAtEnd_b75 at w
  exact g_vreturn C Rr dJ2_linkNodeAtEnd_75 ⟨rfl, w⟩
def wp_J2_linkNodeAtEnd_b40 (K : Hp → Prop) (h : Hp)  : Prop :=
  (wp_J2_linkNodeAtEnd_b75 K h)
set_option maxHeartbeats 4000000 in
theorem wk_J2_linkNodeAtEnd_b40 {X : Fx} {K : Hp → Prop} (C : Cx X cJ2_linkNodeAtEnd yJ2_linkNodeAtEnd.cls 3 2) (Rr : Rx X (Option.none : Option Jvm.ClassFile.FieldType) (pV K)) (N : Nm X yJ2_linkNodeAtEnd.name) (h : Hp)  (w : wp_J2_linkNodeAtEnd_b40 K h ) : Gd X h 40 [none, none, none] [] := by
  unfold wp_J2_linkNodeAtEnd_b40 at w
  refine g_goto 75 C dJ2_linkNodeAtEnd_40 rfl ?_
  refine g_sub [none, none, none] [] rfl rfl ?_
  exact wk_J2_linkNodeAtEnd_b75 C Rr N _ w
def wp_J2_linkNodeAtEnd (h : Hp) (x0 : Option Nat) (x1 : Option Nat) (K : Hp → Prop) : Prop :=
  (∃ a36, x0 = some a36 ∧ ((¬ (it h 22 a36) = 1 → (∀ h39, h39 = wR h 20 a36 x1 → (((rf h 20 a36) = none → (∀ h42, h42 = wR h39 19 a36 x1 → (wp_J2_linkNodeAtEnd_b75 K h42))) ∧ (∀ a41, (rf h 20 a36) = some a41 → (∃ a43, x1 = some a43 ∧ (∀ h45, h45 = wR h39 4 a43 (rf h 20 a36) → (∀ h46, h46 = wR h45 5 a41 x1 → (wp_J2_linkNodeAtEnd_b75 K h46)))))))) ∧ ((it h 22 a36) = 1 → (∀ h47, h47 = wR h 19 a36 x1 → (((rf h 19 a36) = none → (∀ h50, h50 = wR h47 20 a36 x1 → (wp_J2_linkNodeAtEnd_b40 K h50))) ∧ (∀ a49, (rf h 19 a36) = some a49 → (∃ a51, x1 = some a51 ∧ (∀ h53, h53 = wR h47 5 a51 (rf h 19 a36) → (∀ h54, h54 = wR h53 4 a49 x1 → (wp_J2_linkNodeAtEnd_b40 K h54))))))))))
set_option maxHeartbeats 4000000 in
theorem wk_J2_linkNodeAtEnd {X : Fx} {K : Hp → Prop} (C : Cx X cJ2_linkNodeAtEnd yJ2_linkNodeAtEnd.cls 3 2) (Rr : Rx X (Option.none : Option Jvm.ClassFile.FieldType) (pV K)) (N : Nm X yJ2_linkNodeAtEnd.name) (h : Hp) (x0 : Option Nat) (x1 : Option Nat) (w : wp_J2_linkNodeAtEnd h x0 x1 K) : Gd X h 0 [some (vR [3] x0), some (vR [6, 7] x1), none] [] := by
  unfold wp_J2_linkNodeAtEnd at w
  refine g_aload_n 1 rfl C dJ2_linkNodeAtEnd_0 rfl ?_
  obtain ⟨a36, e37, w⟩ := w
  refine g_getI 4 rfl C dJ2_linkNodeAtEnd_1 fl_LinkedHashMap_1 rfl e37 rfl ?_
  refine g_iconst 5 rfl C dJ2_linkNodeAtEnd_4 1 rfl ?_
  refine g_icmp_ne 8 43 rfl C dJ2_linkNodeAtEnd_5 rfl (fun u38 => ?_) (fun u38 => ?_)
  · have w := w.1 u38
    refine g_aload_n 44 rfl C dJ2_linkNodeAtEnd_43 rfl ?_
    refine g_getR 47 rfl C dJ2_linkNodeAtEnd_44 fl_LinkedHashMap_11 rfl e37 rfl ?_
    refine g_astore_n 48 rfl C dJ2_linkNodeAtEnd_47 (by decide) (rfl : _ = [some (vR [3] _), some (vR [6, 7] _), some (vR [6, 7] _)]) ?_
    refine g_aload_n 49 rfl C dJ2_linkNodeAtEnd_48 rfl ?_
    refine g_aload_n 50 rfl C dJ2_linkNodeAtEnd_49 rfl ?_
    refine g_putR 53 rfl C dJ2_linkNodeAtEnd_50 fl_LinkedHashMap_11 rfl rfl rfl e37 rfl ?_
    have w := w _ rfl
    refine g_aload_n 54 rfl C dJ2_linkNodeAtEnd_53 rfl ?_
    refine g_ifnonnull 57 65 rfl C dJ2_linkNodeAtEnd_54 rfl (fun a41 u40 => ?_) (fun u40 => ?_)
    · have w := w.2 a41 u40
      refine g_aload_n 66 rfl C dJ2_linkNodeAtEnd_65 rfl ?_
      refine g_aload_n 67 rfl C dJ2_linkNodeAtEnd_66 rfl ?_
      obtain ⟨a43, e44, w⟩ := w
      refine g_putR 70 rfl C dJ2_linkNodeAtEnd_67 fl_LinkedHashMap_19 rfl rfl rfl e44 rfl ?_
      have w := w _ rfl
      refine g_aload_n 71 rfl C dJ2_linkNodeAtEnd_70 rfl ?_
      refine g_aload_n 72 rfl C dJ2_linkNodeAtEnd_71 rfl ?_
      refine g_putR 75 rfl C dJ2_linkNodeAtEnd_72 fl_LinkedHashMap_14 rfl rfl rfl u40 rfl ?_
      have w := w _ rfl
      refine g_sub [none, none, none] [] rfl rfl ?_
      exact wk_J2_linkNodeAtEnd_b75 C Rr N _ w
    · have w := w.1 u40
      refine g_aload_n 58 rfl C dJ2_linkNodeAtEnd_57 rfl ?_
      refine g_aload_n 59 rfl C dJ2_linkNodeAtEnd_58 rfl ?_
      refine g_putR 62 rfl C dJ2_linkNodeAtEnd_59 fl_LinkedHashMap_7 rfl rfl rfl e37 rfl ?_
      have w := w _ rfl
      refine g_goto 75 C dJ2_linkNodeAtEnd_62 rfl ?_
      refine g_sub [none, none, none] [] rfl rfl ?_
      exact wk_J2_linkNodeAtEnd_b75 C Rr N _ w
  · have w := w.2 u38
    refine g_aload_n 9 rfl C dJ2_linkNodeAtEnd_8 rfl ?_
    refine g_getR 12 rfl C dJ2_linkNodeAtEnd_9 fl_LinkedHashMap_7 rfl e37 rfl ?_
    refine g_astore_n 13 rfl C dJ2_linkNodeAtEnd_12 (by decide) (rfl : _ = [some (vR [3] _), some (vR [6, 7] _), some (vR [6, 7] _)]) ?_
    refine g_aload_n 14 rfl C dJ2_linkNodeAtEnd_13 rfl ?_
    refine g_aload_n 15 rfl C dJ2_linkNodeAtEnd_14 rfl ?_
    refine g_putR 18 rfl C dJ2_linkNodeAtEnd_15 fl_LinkedHashMap_7 rfl rfl rfl e37 rfl ?_
    have w := w _ rfl
    refine g_aload_n 19 rfl C dJ2_linkNodeAtEnd_18 rfl ?_
    refine g_ifnonnull 22 30 rfl C dJ2_linkNodeAtEnd_19 rfl (fun a49 u48 => ?_) (fun u48 => ?_)
    · have w := w.2 a49 u48
      refine g_aload_n 31 rfl C dJ2_linkNodeAtEnd_30 rfl ?_
      refine g_aload_n 32 rfl C dJ2_linkNodeAtEnd_31 rfl ?_
      obtain ⟨a51, e52, w⟩ := w
      refine g_putR 35 rfl C dJ2_linkNodeAtEnd_32 fl_LinkedHashMap_14 rfl rfl rfl e52 rfl ?_
      have w := w _ rfl
      refine g_aload_n 36 rfl C dJ2_linkNodeAtEnd_35 rfl ?_
      refine g_aload_n 37 rfl C dJ2_linkNodeAtEnd_36 rfl ?_
      refine g_putR 40 rfl C dJ2_linkNodeAtEnd_37 fl_LinkedHashMap_19 rfl rfl rfl u48 rfl ?_
      have w := w _ rfl
      refine g_sub [none, none, none] [] rfl rfl ?_
      exact wk_J2_linkNodeAtEnd_b40 C Rr N _ w
    · have w := w.1 u48
      refine g_aload_n 23 rfl C dJ2_linkNodeAtEnd_22 rfl ?_
      refine g_aload_n 24 rfl C dJ2_linkNodeAtEnd_23 rfl ?_
      refine g_putR 27 rfl C dJ2_linkNodeAtEnd_24 fl_LinkedHashMap_11 rfl rfl rfl e37 rfl ?_
      have w := w _ rfl
      refine g_goto 40 C dJ2_linkNodeAtEnd_27 rfl ?_
      refine g_sub [none, none, none] [] rfl rfl ?_
      exact wk_J2_linkNodeAtEnd_b40 C Rr N _ w
theorem ct_J2_linkNodeAtEnd {E : Gx} (GE : Glob E) {h : Hp} {x0 : Option Nat} {x1 : Option Nat} {K : Hp → Prop} (w : wp_J2_linkNodeAtEnd h x0 x1 K) : Ct E yJ2_linkNodeAtEnd cJ2_linkNodeAtEnd 3 (Option.none : Option Jvm.ClassFile.FieldType) 2 [vR [3] x0, vR [6, 7] x1] h (pV K) :=
  Ct.of GE (by decide +kernel) (by simp [lvA, t2]) rfl (fun X hX C Rr N => wk_J2_linkNodeAtEnd C Rr N h x0 x1 w)
def wp_J2_newNode (h : Hp) (x0 : Option Nat) (x1 : Int32) (x2 : Option Nat) (x3 : Option Nat) (x4 : Option Nat) (K : Option Nat → Hp → Prop) : Prop :=
  (Rm h 1 6 ∧ ∀ a19, kd h a19 = 0 → ∀ h20, h20 = nw h a19 6 0 → (wp_J7_init h20 (some a19) x1 x2 x3 x4 (fun h25 => Ex h20 h25 → (∃ a28, x0 = some a28 ∧ (wp_J2_linkNodeAtEnd h25 x0 (some a19) (fun h32 => Ex h25 h32 → (K (some a19) h32)))))))
set_option maxHeartbeats 4000000 in
theorem wk_J2_newNode {X : Fx} {K : Option Nat → Hp → Prop} (C : Cx X cJ2_newNode yJ2_newNode.cls 6 4) (Rr : Rx X (Option.some (Jvm.ClassFile.FieldType.object "java/util/HashMap$Node")) (pR [5, 6, 7] K)) (N : Nm X yJ2_newNode.name) (h : Hp) (x0 : Option Nat) (x1 : Int32) (x2 : Option Nat) (x3 : Option Nat) (x4 : Option Nat) (w : wp_J2_newNode h x0 x1 x2 x3 x4 K) : Gd X h 0 [some (vR [3] x0), some (vI x1), some (vR [4, 60] x2), some (vR [4, 60] x3), some (vR [5, 6, 7] x4), none] [] := by
  unfold wp_J2_newNode at w
  obtain ⟨r21, w⟩ := w
  refine g_new 6 3 rfl C dJ2_newNode_0 rfl q239 q240 q20 r21 (fun a19 z22 => ?_)
  have w := w a19 z22 _ rfl
  refine g_dup 4 rfl C dJ2_newNode_3 rfl ?_
  refine g_iload_n 5 rfl C dJ2_newNode_4 rfl ?_
  refine g_aload_n 6 rfl C dJ2_newNode_5 rfl ?_
  refine g_aload_n 7 rfl C dJ2_newNode_6 rfl ?_
  refine g_aload 9 rfl C dJ2_newNode_7 rfl ?_
  refine g_sub [some none, some none, some none, some none, some none, none] [none, none, none, none, some [6, 7]] rfl rfl ?_
  refine g_callI (As := [vI _, vR [4, 60] _, vR [4, 60] _, vR [5, 6, 7] _]) (T := [6, 7]) (st := [vR [6] _]) 12 rfl C dJ2_newNode_9 q241 q242 q20 q243 rfl okn_2abc05 (by decide) (by decide) (Nat.le_of_ble_eq_true rfl) rfl rfl (ct_J7_init C.glob w) (fun r0 h25 p26 x27 _ => ?_)
  obtain ⟨rfl, w⟩ := p26
  have w := w x27
  change Gd _ _ _ _ [vR [6] _]
  refine g_astore 14 rfl C dJ2_newNode_12 (by decide) (rfl : _ = [some (vR [3] _), some (vI _), some (vR [4, 60] _), some (vR [4, 60] _), some (vR [5, 6, 7] _), some (vR [6] _)]) ?_
  refine g_aload_n 15 rfl C dJ2_newNode_14 rfl ?_
  refine g_aload 17 rfl C dJ2_newNode_15 rfl ?_
  obtain ⟨a28, e29, w⟩ := w
  refine g_sub [some none, some none, some none, some none, some none, some none] [some [6, 7], none] rfl rfl ?_
  refine g_callV (As := [vR [6, 7] _]) (T := [3]) (st := []) "java/util/LinkedHashMap" 20 rfl C dJ2_newNode_17 q376 q378 qs2 q12 q379 rfl okn_8ea841 (by decide) (by decide) (Nat.le_of_ble_eq_true rfl) e29 (fun q => tC rfl q) rfl (ct_J2_linkNodeAtEnd C.glob w) (fun r0 h32 p33 x34 _ => ?_)
  obtain ⟨rfl, w⟩ := p33
  have w := w x34
  change Gd _ _ _ _ []
  refine g_aload 22 rfl C dJ2_newNode_20 rfl ?_
  exact g_areturn [5, 6, 7] C Rr rfl dJ2_newNode_22 rfl ⟨_, rfl, w⟩
theorem ct_J2_newNode {E : Gx} (GE : Glob E) {h : Hp} {x0 : Option Nat} {x1 : Int32} {x2 : Option Nat} {x3 : Option Nat} {x4 : Option Nat} {K : Option Nat → Hp → Prop} (w : wp_J2_newNode h x0 x1 x2 x3 x4 K) : Ct E yJ2_newNode cJ2_newNode 6 (Option.some (Jvm.ClassFile.FieldType.object "java/util/HashMap$Node")) 4 [vR [3] x0, vI x1, vR [4, 60] x2, vR [4, 60] x3, vR [5, 6, 7] x4] h (pR [5, 6, 7] K) :=
  Ct.of GE (by decide +kernel) (by simp [lvA, t2]) rfl (fun X hX C Rr N => wk_J2_newNode C Rr N h x0 x1 x2 x3 x4 w)
def wp_J2_removeEldestEntry (h : Hp) (x0 : Option Nat) (x1 : Option Nat) (K : Int32 → Hp → Prop) : Prop :=
  (K 0 h)
set_option maxHeartbeats 4000000 in
theorem wk_J2_removeEldestEntry {X : Fx} {K : Int32 → Hp → Prop} (C : Cx X cJ2_removeEldestEntry yJ2_removeEldestEntry.cls 2 2) (Rr : Rx X (Option.some Jvm.ClassFile.FieldType.boolean) (pI K)) (N : Nm X yJ2_removeEldestEntry.name) (h : Hp) (x0 : Option Nat) (x1 : Option Nat) (w : wp_J2_removeEldestEntry h x0 x1 K) : Gd X h 0 [some (vR [3] x0), some (vR [5, 6, 7] x1)] [] := by
  unfold wp_J2_removeEldestEntry at w
  refine g_iconst 1 rfl C dJ2_removeEldestEntry_0 0 rfl ?_
  exact g_zreturn C Rr dJ2_removeEldestEntry_1 (Or.inl rfl) ⟨_, rfl, w⟩
theorem ct_J2_removeEldestEntry {E : Gx} (GE : Glob E) {h : Hp} {x0 : Option Nat} {x1 : Option Nat} {K : Int32 → Hp → Prop} (w : wp_J2_removeEldestEntry h x0 x1 K) : Ct E yJ2_removeEldestEntry cJ2_removeEldestEntry 2 (Option.some Jvm.ClassFile.FieldType.boolean) 2 [vR [3] x0, vR [5, 6, 7] x1] h (pI K) :=
  Ct.of GE (by decide +kernel) (by simp [lvA, t2]) rfl (fun X hX C Rr N => wk_J2_removeEldestEntry C Rr N h x0 x1 w)
def wp_J2_afterNodeInsertion_b39 (K : Hp → Prop) (h : Hp)  : Prop :=
  (K h)
set_option maxHeartbeats 4000000 in
theorem wk_J2_afterNodeInsertion_b39 {X : Fx} {K : Hp → Prop} (C : Cx X cJ2_afterNodeInsertion yJ2_afterNodeInsertion.cls 4 3) (Rr : Rx X (Option.none : Option Jvm.ClassFile.FieldType) (pV K)) (N : Nm X yJ2_afterNodeInsertion.name) (h : Hp)  (w : wp_J2_afterNodeInsertion_b39 K h ) : Gd X h 39 [none, none, none, none] [] := by
  unfold wp_J2_afterNodeInsertion_b39 at w
  exact g_vreturn C Rr dJ2_afterNodeInsertion_39 ⟨rfl, w⟩
def wp_J2_afterNodeInsertion (h : Hp) (x0 : Option Nat) (x1 : Int32) (K : Hp → Prop) : Prop :=
  ((x1 = 0 → (wp_J2_afterNodeInsertion_b39 K h)) ∧ (¬ x1 = 0 → (∃ a17, x0 = some a17 ∧ (((rf h 19 a17) = none → (wp_J2_afterNodeInsertion_b39 K h)) ∧ (∀ a20, (rf h 19 a17) = some a20 → (wp_J2_removeEldestEntry h x0 (rf h 19 a17) (fun r22 h23 => Ex h h23 → ((r22 = 0 → (wp_J2_afterNodeInsertion_b39 K h23)) ∧ (¬ r22 = 0 → False)))))))))
set_option maxHeartbeats 4000000 in
theorem wk_J2_afterNodeInsertion {X : Fx} {K : Hp → Prop} (C : Cx X cJ2_afterNodeInsertion yJ2_afterNodeInsertion.cls 4 3) (Rr : Rx X (Option.none : Option Jvm.ClassFile.FieldType) (pV K)) (N : Nm X yJ2_afterNodeInsertion.name) (h : Hp) (x0 : Option Nat) (x1 : Int32) (w : wp_J2_afterNodeInsertion h x0 x1 K) : Gd X h 0 [some (vR [3] x0), some (vI x1), none, none] [] := by
  unfold wp_J2_afterNodeInsertion at w
  refine g_iload_n 1 rfl C dJ2_afterNodeInsertion_0 rfl ?_
  refine g_if_eq 4 39 rfl C dJ2_afterNodeInsertion_1 rfl (fun u16 => ?_) (fun u16 => ?_)
  · have w := w.1 u16
    refine g_sub [none, none, none, none] [] rfl rfl ?_
    exact wk_J2_afterNodeInsertion_b39 C Rr N _ w
  · have w := w.2 u16
    refine g_aload_n 5 rfl C dJ2_afterNodeInsertion_4 rfl ?_
    obtain ⟨a17, e18, w⟩ := w
    refine g_getR 8 rfl C dJ2_afterNodeInsertion_5 fl_LinkedHashMap_7 rfl e18 rfl ?_
    refine g_dup 9 rfl C dJ2_afterNodeInsertion_8 rfl ?_
    refine g_astore_n 10 rfl C dJ2_afterNodeInsertion_9 (by decide) (rfl : _ = [some (vR [3] _), some (vI _), some (vR [6, 7] _), none]) ?_
    refine g_ifnull 13 39 rfl C dJ2_afterNodeInsertion_10 rfl (fun u19 => ?_) (fun a20 u19 => ?_)
    · have w := w.1 u19
      refine g_sub [none, none, none, none] [] rfl rfl ?_
      exact wk_J2_afterNodeInsertion_b39 C Rr N _ w
    · have w := w.2 a20 u19
      refine g_aload_n 14 rfl C dJ2_afterNodeInsertion_13 rfl ?_
      refine g_aload_n 15 rfl C dJ2_afterNodeInsertion_14 rfl ?_
      refine g_sub [some none, some none, some none, none] [some [5, 6, 7], none] rfl rfl ?_
      refine g_callV (As := [vR [5, 6, 7] _]) (T := [3]) (st := []) "java/util/LinkedHashMap" 18 rfl C dJ2_afterNodeInsertion_15 q477 q478 q479 q12 q480 rfl okn_bf6f0f (by decide) (by decide) (Nat.le_of_ble_eq_true rfl) e18 (fun q => tC rfl q) rfl (ct_J2_removeEldestEntry C.glob w) (fun r0 h23 p24 x25 _ => ?_)
      obtain ⟨r22, rfl, w⟩ := p24
      have w := w x25
      change Gd _ _ _ _ (vI r22 :: [])
      refine g_if_eq 21 39 rfl C dJ2_afterNodeInsertion_18 rfl (fun u26 => ?_) (fun u26 => ?_)
      · have w := w.1 u26
        refine g_sub [none, none, none, none] [] rfl rfl ?_
        exact wk_J2_afterNodeInsertion_b39 C Rr N _ w
      · have w := w.2 u26
        refine g_aload_n 22 rfl C dJ2_afterNodeInsertion_21 rfl ?_
        refine g_getR 25 rfl C dJ2_afterNodeInsertion_22 fl_LinkedHashMap_39 rfl u19 rfl ?_
        refine g_astore_n 26 rfl C dJ2_afterNodeInsertion_25 (by decide) (rfl : _ = [some (vR [3] _), some (vI _), some (vR [6, 7] _), some (vR [4, 60] _)]) ?_
        refine g_aload_n 27 rfl C dJ2_afterNodeInsertion_26 rfl ?_
        refine g_aload_n 28 rfl C dJ2_afterNodeInsertion_27 rfl ?_
        exact w.elim
theorem ct_J2_afterNodeInsertion {E : Gx} (GE : Glob E) {h : Hp} {x0 : Option Nat} {x1 : Int32} {K : Hp → Prop} (w : wp_J2_afterNodeInsertion h x0 x1 K) : Ct E yJ2_afterNodeInsertion cJ2_afterNodeInsertion 4 (Option.none : Option Jvm.ClassFile.FieldType) 3 [vR [3] x0, vI x1] h (pV K) :=
  Ct.of GE (by decide +kernel) (by simp [lvA, t2]) rfl (fun X hX C Rr N => wk_J2_afterNodeInsertion C Rr N h x0 x1 w)
def wp_J1_newTreeNode (h : Hp) (x0 : Option Nat) (x1 : Int32) (x2 : Option Nat) (x3 : Option Nat) (x4 : Option Nat) (K : Option Nat → Hp → Prop) : Prop :=
  (Rm h 1 11 ∧ ∀ a12, kd h a12 = 0 → ∀ h13, h13 = nw h a12 7 0 → (wp_J8_init h13 (some a12) x1 x2 x3 x4 (fun h18 => Ex h13 h18 → (K (some a12) h18))))
set_option maxHeartbeats 4000000 in
theorem wk_J1_newTreeNode {X : Fx} {K : Option Nat → Hp → Prop} (C : Cx X cJ1_newTreeNode yJ1_newTreeNode.cls 5 5) (Rr : Rx X (Option.some (Jvm.ClassFile.FieldType.object "java/util/HashMap$TreeNode")) (pR [7] K)) (N : Nm X yJ1_newTreeNode.name) (h : Hp) (x0 : Option Nat) (x1 : Int32) (x2 : Option Nat) (x3 : Option Nat) (x4 : Option Nat) (w : wp_J1_newTreeNode h x0 x1 x2 x3 x4 K) : Gd X h 0 [some (vR [2, 3] x0), some (vI x1), some (vR [4, 60] x2), some (vR [4, 60] x3), some (vR [5, 6, 7] x4)] [] := by
  unfold wp_J1_newTreeNode at w
  obtain ⟨r14, w⟩ := w
  refine g_new 7 3 rfl C dJ1_newTreeNode_0 rfl q222 q417 q21 r14 (fun a12 z15 => ?_)
  have w := w a12 z15 _ rfl
  refine g_dup 4 rfl C dJ1_newTreeNode_3 rfl ?_
  refine g_iload_n 5 rfl C dJ1_newTreeNode_4 rfl ?_
  refine g_aload_n 6 rfl C dJ1_newTreeNode_5 rfl ?_
  refine g_aload_n 7 rfl C dJ1_newTreeNode_6 rfl ?_
  refine g_aload 9 rfl C dJ1_newTreeNode_7 rfl ?_
  refine g_callI (As := [vI _, vR [4, 60] _, vR [4, 60] _, vR [5, 6, 7] _]) (T := [7]) (st := [vR [7] _]) 12 rfl C dJ1_newTreeNode_9 q446 q419 q21 q420 rfl okn_63fed0 (by decide) (by decide) (Nat.le_of_ble_eq_true rfl) rfl rfl (ct_J8_init C.glob w) (fun r0 h18 p19 x20 _ => ?_)
  obtain ⟨rfl, w⟩ := p19
  have w := w x20
  change Gd _ _ _ _ [vR [7] _]
  exact g_areturn [7] C Rr rfl dJ1_newTreeNode_12 rfl ⟨_, rfl, w⟩
theorem ct_J1_newTreeNode {E : Gx} (GE : Glob E) {h : Hp} {x0 : Option Nat} {x1 : Int32} {x2 : Option Nat} {x3 : Option Nat} {x4 : Option Nat} {K : Option Nat → Hp → Prop} (w : wp_J1_newTreeNode h x0 x1 x2 x3 x4 K) : Ct E yJ1_newTreeNode cJ1_newTreeNode 5 (Option.some (Jvm.ClassFile.FieldType.object "java/util/HashMap$TreeNode")) 5 [vR [2, 3] x0, vI x1, vR [4, 60] x2, vR [4, 60] x3, vR [5, 6, 7] x4] h (pR [7] K) :=
  Ct.of GE (by decide +kernel) (by simp [lvA, t2]) rfl (fun X hX C Rr N => wk_J1_newTreeNode C Rr N h x0 x1 x2 x3 x4 w)
def wp_J2_newTreeNode (h : Hp) (x0 : Option Nat) (x1 : Int32) (x2 : Option Nat) (x3 : Option Nat) (x4 : Option Nat) (K : Option Nat → Hp → Prop) : Prop :=
  (Rm h 1 11 ∧ ∀ a19, kd h a19 = 0 → ∀ h20, h20 = nw h a19 7 0 → (wp_J8_init h20 (some a19) x1 x2 x3 x4 (fun h25 => Ex h20 h25 → (∃ a28, x0 = some a28 ∧ (wp_J2_linkNodeAtEnd h25 x0 (some a19) (fun h32 => Ex h25 h32 → (K (some a19) h32)))))))
set_option maxHeartbeats 4000000 in
theorem wk_J2_newTreeNode {X : Fx} {K : Option Nat → Hp → Prop} (C : Cx X cJ2_newTreeNode yJ2_newTreeNode.cls 6 5) (Rr : Rx X (Option.some (Jvm.ClassFile.FieldType.object "java/util/HashMap$TreeNode")) (pR [7] K)) (N : Nm X yJ2_newTreeNode.name) (h : Hp) (x0 : Option Nat) (x1 : Int32) (x2 : Option Nat) (x3 : Option Nat) (x4 : Option Nat) (w : wp_J2_newTreeNode h x0 x1 x2 x3 x4 K) : Gd X h 0 [some (vR [3] x0), some (vI x1), some (vR [4, 60] x2), some (vR [4, 60] x3), some (vR [5, 6, 7] x4), none] [] := by
  unfold wp_J2_newTreeNode at w
  obtain ⟨r21, w⟩ := w
  refine g_new 7 3 rfl C dJ2_newTreeNode_0 rfl q416 q417 q21 r21 (fun a19 z22 => ?_)
  have w := w a19 z22 _ rfl
  refine g_dup 4 rfl C dJ2_newTreeNode_3 rfl ?_
  refine g_iload_n 5 rfl C dJ2_newTreeNode_4 rfl ?_
  refine g_aload_n 6 rfl C dJ2_newTreeNode_5 rfl ?_
  refine g_aload_n 7 rfl C dJ2_newTreeNode_6 rfl ?_
  refine g_aload 9 rfl C dJ2_newTreeNode_7 rfl ?_
  refine g_callI (As := [vI _, vR [4, 60] _, vR [4, 60] _, vR [5, 6, 7] _]) (T := [7]) (st := [vR [7] _]) 12 rfl C dJ2_newTreeNode_9 q418 q419 q21 q420 rfl okn_63fed0 (by decide) (by decide) (Nat.le_of_ble_eq_true rfl) rfl rfl (ct_J8_init C.glob w) (fun r0 h25 p26 x27 _ => ?_)
  obtain ⟨rfl, w⟩ := p26
  have w := w x27
  change Gd _ _ _ _ [vR [7] _]
  refine g_astore 14 rfl C dJ2_newTreeNode_12 (by decide) (rfl : _ = [some (vR [3] _), some (vI _), some (vR [4, 60] _), some (vR [4, 60] _), some (vR [5, 6, 7] _), some (vR [7] _)]) ?_
  refine g_aload_n 15 rfl C dJ2_newTreeNode_14 rfl ?_
  refine g_aload 17 rfl C dJ2_newTreeNode_15 rfl ?_
  obtain ⟨a28, e29, w⟩ := w
  refine g_sub [some none, some none, some none, some none, some none, some none] [some [6, 7], none] rfl rfl ?_
  refine g_callV (As := [vR [6, 7] _]) (T := [3]) (st := []) "java/util/LinkedHashMap" 20 rfl C dJ2_newTreeNode_17 q376 q378 qs2 q12 q379 rfl okn_8ea841 (by decide) (by decide) (Nat.le_of_ble_eq_true rfl) e29 (fun q => tC rfl q) rfl (ct_J2_linkNodeAtEnd C.glob w) (fun r0 h32 p33 x34 _ => ?_)
  obtain ⟨rfl, w⟩ := p33
  have w := w x34
  change Gd _ _ _ _ []
  refine g_aload 22 rfl C dJ2_newTreeNode_20 rfl ?_
  exact g_areturn [7] C Rr rfl dJ2_newTreeNode_22 rfl ⟨_, rfl, w⟩
theorem ct_J2_newTreeNode {E : Gx} (GE : Glob E) {h : Hp} {x0 : Option Nat} {x1 : Int32} {x2 : Option Nat} {x3 : Option Nat} {x4 : Option Nat} {K : Option Nat → Hp → Prop} (w : wp_J2_newTreeNode h x0 x1 x2 x3 x4 K) : Ct E yJ2_newTreeNode cJ2_newTreeNode 6 (Option.some (Jvm.ClassFile.FieldType.object "java/util/HashMap$TreeNode")) 5 [vR [3] x0, vI x1, vR [4, 60] x2, vR [4, 60] x3, vR [5, 6, 7] x4] h (pR [7] K) :=
  Ct.of GE (by decide +kernel) (by simp [lvA, t2]) rfl (fun X hX C Rr N => wk_J2_newTreeNode C Rr N h x0 x1 x2 x3 x4 w)
def wp_J8_putTreeVal_b85 (K : Option Nat → Hp → Prop) (h : Hp) (l9 : Option Nat) : Prop :=
  (K l9 h)
set_option maxHeartbeats 4000000 in
theorem wk_J8_putTreeVal_b85 {X : Fx} {K : Option Nat → Hp → Prop} (C : Cx X cJ8_putTreeVal yJ8_putTreeVal.cls 16 6) (Rr : Rx X (Option.some (Jvm.ClassFile.FieldType.object "java/util/HashMap$TreeNode")) (pR [7] K)) (N : Nm X yJ8_putTreeVal.name) (h : Hp) (l9 : Option Nat) (w : wp_J8_putTreeVal_b85 K h l9) : Gd X h 85 [none, none, none, none, none, none, none, none, none, some (vR [7] l9), none, none, none, none, none, none] [] := by
  unfold wp_J8_putTreeVal_b85 at w
  refine g_aload 87 rfl C dJ8_putTreeVal_85 rfl ?_
  exact g_areturn [7] C Rr rfl dJ8_putTreeVal_87 rfl ⟨_, rfl, w⟩
def wp_J8_putTreeVal_b88 (K : Option Nat → Hp → Prop) (h : Hp) (l4 : Option Nat) (l6 : Option Nat) (l12 : Option Nat) : Prop :=
  ((l6 = none → False) ∧ (∀ a147, l6 = some a147 → False))
set_option maxHeartbeats 4000000 in
theorem wk_J8_putTreeVal_b88 {X : Fx} {K : Option Nat → Hp → Prop} (C : Cx X cJ8_putTreeVal yJ8_putTreeVal.cls 16 6) (Rr : Rx X (Option.some (Jvm.ClassFile.FieldType.object "java/util/HashMap$TreeNode")) (pR [7] K)) (N : Nm X yJ8_putTreeVal.name) (h : Hp) (l4 : Option Nat) (l6 : Option Nat) (l12 : Option Nat) (w : wp_J8_putTreeVal_b88 K h l4 l6 l12) : Gd X h 88 [none, none, none, none, some (vR [4, 60] l4), none, some (vR [] l6), none, none, none, none, none, some (vR [4, 60] l12), none, none, none] [] := by
  unfold wp_J8_putTreeVal_b88 at w
  refine g_aload 90 rfl C dJ8_putTreeVal_88 rfl ?_
  refine g_ifnonnull 93 104 rfl C dJ8_putTreeVal_90 rfl (fun a147 u146 => ?_) (fun u146 => ?_)
  · have w := w.2 a147 u146
    refine g_aload 106 rfl C dJ8_putTreeVal_104 rfl ?_
    refine g_aload 108 rfl C dJ8_putTreeVal_106 rfl ?_
    refine g_aload 110 rfl C dJ8_putTreeVal_108 rfl ?_
    exact w.elim
  · have w := w.1 u146
    refine g_aload 95 rfl C dJ8_putTreeVal_93 rfl ?_
    exact w.elim
def wp_J8_putTreeVal_b298 (K : Option Nat → Hp → Prop) (h : Hp) (l2 : Option Nat) (l8 : Option Nat) (l15 : Option Nat) : Prop :=
  (wp_J8_balanceInsertion h l8 l15 (fun r112 h113 => Ex h h113 → (wp_J8_moveRootToFront h113 l2 r112 (fun h118 => Ex h113 h118 → (K none h118)))))
set_option maxHeartbeats 4000000 in
theorem wk_J8_putTreeVal_b298 {X : Fx} {K : Option Nat → Hp → Prop} (C : Cx X cJ8_putTreeVal yJ8_putTreeVal.cls 16 6) (Rr : Rx X (Option.some (Jvm.ClassFile.FieldType.object "java/util/HashMap$TreeNode")) (pR [7] K)) (N : Nm X yJ8_putTreeVal.name) (h : Hp) (l2 : Option Nat) (l8 : Option Nat) (l15 : Option Nat) (w : wp_J8_putTreeVal_b298 K h l2 l8 l15) : Gd X h 298 [none, none, some (vR [51] l2), none, none, none, none, none, some (vR [7] l8), none, none, none, none, none, none, some (vR [7] l15)] [] := by
  unfold wp_J8_putTreeVal_b298 at w
  refine g_aload_n 299 rfl C dJ8_putTreeVal_298 rfl ?_
  refine g_aload 301 rfl C dJ8_putTreeVal_299 rfl ?_
  refine g_aload 303 rfl C dJ8_putTreeVal_301 rfl ?_
  refine g_callS (As := [vR [7] _, vR [7] _]) (st := [vR [51] _]) 306 rfl C dJ8_putTreeVal_303 q355 q356 q21 q357 okn_7b58fd (by decide) (by decide) (Nat.le_of_ble_eq_true rfl) rfl (ct_J8_balanceInsertion C.glob w) (fun r0 h113 p114 x115 _ => ?_)
  obtain ⟨r112, rfl, w⟩ := p114
  have w := w x115
  change Gd _ _ _ _ (vR [7] r112 :: [vR [51] _])
  refine g_callS (As := [vR [51] _, vR [7] _]) (st := []) 309 rfl C dJ8_putTreeVal_306 q364 q365 q21 q366 okn_ba9dfb (by decide) (by decide) (Nat.le_of_ble_eq_true rfl) rfl (ct_J8_moveRootToFront C.glob w) (fun r0 h118 p119 x120 _ => ?_)
  obtain ⟨rfl, w⟩ := p119
  have w := w x120
  change Gd _ _ _ _ []
  refine g_null 310 rfl C dJ8_putTreeVal_309 ?_
  exact g_areturn [7] C Rr rfl dJ8_putTreeVal_310 rfl ⟨_, rfl, w⟩
def wp_J8_putTreeVal_b263 (K : Option Nat → Hp → Prop) (h : Hp) (l2 : Option Nat) (l8 : Option Nat) (l13 : Option Nat) (l14 : Option Nat) (l15 : Option Nat) : Prop :=
  (∃ a100, l13 = some a100 ∧ (∀ h102, h102 = wR h 3 a100 l15 → (∃ a103, l15 = some a103 ∧ (∀ h105, h105 = wR h102 9 a103 l13 → (∀ h106, h106 = wR h105 6 a103 l13 → ((l14 = none → (wp_J8_putTreeVal_b298 K h106 l2 l8 l15)) ∧ (∀ a108, l14 = some a108 → ((∀ a, l14 = some a → kd h106 a ∈ [7]) ∧ (∀ h110, h110 = wR h106 9 a108 l15 → (wp_J8_putTreeVal_b298 K h110 l2 l8 l15))))))))))
set_option maxHeartbeats 4000000 in
theorem wk_J8_putTreeVal_b263 {X : Fx} {K : Option Nat → Hp → Prop} (C : Cx X cJ8_putTreeVal yJ8_putTreeVal.cls 16 6) (Rr : Rx X (Option.some (Jvm.ClassFile.FieldType.object "java/util/HashMap$TreeNode")) (pR [7] K)) (N : Nm X yJ8_putTreeVal.name) (h : Hp) (l2 : Option Nat) (l8 : Option Nat) (l13 : Option Nat) (l14 : Option Nat) (l15 : Option Nat) (w : wp_J8_putTreeVal_b263 K h l2 l8 l13 l14 l15) : Gd X h 263 [none, none, some (vR [51] l2), none, none, none, none, none, some (vR [7] l8), none, none, none, none, some (vR [7] l13), some (vR [5, 6, 7] l14), some (vR [7] l15)] [] := by
  unfold wp_J8_putTreeVal_b263 at w
  refine g_aload 265 rfl C dJ8_putTreeVal_263 rfl ?_
  refine g_aload 267 rfl C dJ8_putTreeVal_265 rfl ?_
  obtain ⟨a100, e101, w⟩ := w
  refine g_putR 270 rfl C dJ8_putTreeVal_267 fl_HashMap_TreeNode_22 rfl rfl rfl e101 rfl ?_
  have w := w _ rfl
  refine g_aload 272 rfl C dJ8_putTreeVal_270 rfl ?_
  refine g_aload 274 rfl C dJ8_putTreeVal_272 rfl ?_
  refine g_aload 276 rfl C dJ8_putTreeVal_274 rfl ?_
  refine g_dup_x1 277 rfl C dJ8_putTreeVal_276 rfl rfl ?_
  obtain ⟨a103, e104, w⟩ := w
  refine g_putR 280 rfl C dJ8_putTreeVal_277 fl_HashMap_TreeNode_19 rfl rfl rfl e104 rfl ?_
  have w := w _ rfl
  refine g_putR 283 rfl C dJ8_putTreeVal_280 fl_HashMap_TreeNode_9 rfl rfl rfl e104 rfl ?_
  have w := w _ rfl
  refine g_aload 285 rfl C dJ8_putTreeVal_283 rfl ?_
  refine g_ifnull 288 298 rfl C dJ8_putTreeVal_285 rfl (fun u107 => ?_) (fun a108 u107 => ?_)
  · have w := w.1 u107
    refine g_sub [none, none, some none, none, none, none, none, none, some none, none, none, none, none, none, none, some none] [] rfl rfl ?_
    exact wk_J8_putTreeVal_b298 C Rr N _ _ _ _ w
  · have w := w.2 a108 u107
    refine g_aload 290 rfl C dJ8_putTreeVal_288 rfl ?_
    obtain ⟨k109, w⟩ := w
    refine g_cast [7] 293 rfl C dJ8_putTreeVal_290 q227 co_HashMap_TreeNode_7 (fun a q _ => k109 a q) ?_
    refine g_aload 295 rfl C dJ8_putTreeVal_293 rfl ?_
    refine g_putR 298 rfl C dJ8_putTreeVal_295 fl_HashMap_TreeNode_19 rfl rfl rfl u107 rfl ?_
    have w := w _ rfl
    refine g_sub [none, none, some none, none, none, none, none, none, some none, none, none, none, none, none, none, some none] [] rfl rfl ?_
    exact wk_J8_putTreeVal_b298 C Rr N _ _ _ _ w
def wp_J8_putTreeVal_b239 (K : Option Nat → Hp → Prop) (h : Hp) (l2 : Option Nat) (l8 : Option Nat) (l10 : Int32) (l13 : Option Nat) (l14 : Option Nat) (s0 : Option Nat) : Prop :=
  ((0 < l10 → (∃ a122, l13 = some a122 ∧ (∀ h124, h124 = wR h 8 a122 s0 → (wp_J8_putTreeVal_b263 K h124 l2 l8 l13 l14 s0)))) ∧ (¬ 0 < l10 → (∃ a125, l13 = some a125 ∧ (∀ h127, h127 = wR h 7 a125 s0 → (wp_J8_putTreeVal_b263 K h127 l2 l8 l13 l14 s0)))))
set_option maxHeartbeats 4000000 in
theorem wk_J8_putTreeVal_b239 {X : Fx} {K : Option Nat → Hp → Prop} (C : Cx X cJ8_putTreeVal yJ8_putTreeVal.cls 16 6) (Rr : Rx X (Option.some (Jvm.ClassFile.FieldType.object "java/util/HashMap$TreeNode")) (pR [7] K)) (N : Nm X yJ8_putTreeVal.name) (h : Hp) (l2 : Option Nat) (l8 : Option Nat) (l10 : Int32) (l13 : Option Nat) (l14 : Option Nat) (s0 : Option Nat) (w : wp_J8_putTreeVal_b239 K h l2 l8 l10 l13 l14 s0) : Gd X h 239 [none, none, some (vR [51] l2), none, none, none, none, none, some (vR [7] l8), none, some (vI l10), none, none, some (vR [7] l13), some (vR [5, 6, 7] l14), none] [vR [7] s0] := by
  unfold wp_J8_putTreeVal_b239 at w
  refine g_astore 241 rfl C dJ8_putTreeVal_239 (by decide) (rfl : _ = [none, none, some (vR [51] _), none, none, none, none, none, some (vR [7] _), none, some (vI _), none, none, some (vR [7] _), some (vR [5, 6, 7] _), some (vR [7] _)]) ?_
  refine g_iload 243 rfl C dJ8_putTreeVal_241 rfl ?_
  refine g_if_gt 246 256 rfl C dJ8_putTreeVal_243 rfl (fun u121 => ?_) (fun u121 => ?_)
  · have w := w.1 u121
    refine g_aload 258 rfl C dJ8_putTreeVal_256 rfl ?_
    refine g_aload 260 rfl C dJ8_putTreeVal_258 rfl ?_
    obtain ⟨a122, e123, w⟩ := w
    refine g_putR 263 rfl C dJ8_putTreeVal_260 fl_HashMap_TreeNode_42 rfl rfl rfl e123 rfl ?_
    have w := w _ rfl
    refine g_sub [none, none, some none, none, none, none, none, none, some none, none, none, none, none, some none, some none, some none] [] rfl rfl ?_
    exact wk_J8_putTreeVal_b263 C Rr N _ _ _ _ _ _ w
  · have w := w.2 u121
    refine g_aload 248 rfl C dJ8_putTreeVal_246 rfl ?_
    refine g_aload 250 rfl C dJ8_putTreeVal_248 rfl ?_
    obtain ⟨a125, e126, w⟩ := w
    refine g_putR 253 rfl C dJ8_putTreeVal_250 fl_HashMap_TreeNode_39 rfl rfl rfl e126 rfl ?_
    have w := w _ rfl
    refine g_goto 263 C dJ8_putTreeVal_253 rfl ?_
    refine g_sub [none, none, some none, none, none, none, none, none, some none, none, none, none, none, some none, some none, some none] [] rfl rfl ?_
    exact wk_J8_putTreeVal_b263 C Rr N _ _ _ _ _ _ w
def wp_J8_putTreeVal_b215 (G27 : Hp → Option Nat → Option Nat → Int32 → Option Nat → Option Nat → Option Nat → Option Nat → Option Nat → Prop) (K : Option Nat → Hp → Prop) (h : Hp) (l1 : Option Nat) (l2 : Option Nat) (l3 : Int32) (l4 : Option Nat) (l5 : Option Nat) (l6 : Option Nat) (l8 : Option Nat) (l10 : Int32) (l13 : Option Nat) (s0 : Option Nat) : Prop :=
  ((s0 = none → (∃ a130, l13 = some a130 ∧ ((∃ a132, l1 = some a132 ∧ (kd h a132 = 2 ∧ (wp_J1_newTreeNode h l1 l3 l4 l5 (rf h 3 a130) (fun r135 h136 => Ex h h136 → (wp_J8_putTreeVal_b239 K h136 l2 l8 l10 l13 (rf h 3 a130) r135))))) ∨ (∃ a139, l1 = some a139 ∧ (kd h a139 = 3 ∧ (wp_J2_newTreeNode h l1 l3 l4 l5 (rf h 3 a130) (fun r142 h143 => Ex h h143 → (wp_J8_putTreeVal_b239 K h143 l2 l8 l10 l13 (rf h 3 a130) r142)))))))) ∧ (∀ a129, s0 = some a129 → (G27 h l1 l2 l3 l4 l5 l6 l8 s0)))
set_option maxHeartbeats 4000000 in
theorem wk_J8_putTreeVal_b215 {X : Fx} {K : Option Nat → Hp → Prop} (C : Cx X cJ8_putTreeVal yJ8_putTreeVal.cls 16 6) (Rr : Rx X (Option.some (Jvm.ClassFile.FieldType.object "java/util/HashMap$TreeNode")) (pR [7] K)) (N : Nm X yJ8_putTreeVal.name) {G27 : Hp → Option Nat → Option Nat → Int32 → Option Nat → Option Nat → Option Nat → Option Nat → Option Nat → Prop} (k27 : ∀ (h : Hp) (l1 : Option Nat) (l2 : Option Nat) (l3 : Int32) (l4 : Option Nat) (l5 : Option Nat) (l6 : Option Nat) (l8 : Option Nat) (l9 : Option Nat), G27 h l1 l2 l3 l4 l5 l6 l8 l9 → Gd X h 27 [none, some (vR [2, 3] l1), some (vR [51] l2), some (vI l3), some (vR [4, 60] l4), some (vR [4, 60] l5), some (vR [] l6), none, some (vR [7] l8), some (vR [7] l9), none, none, none, none, none, none] []) (h : Hp) (l1 : Option Nat) (l2 : Option Nat) (l3 : Int32) (l4 : Option Nat) (l5 : Option Nat) (l6 : Option Nat) (l8 : Option Nat) (l10 : Int32) (l13 : Option Nat) (s0 : Option Nat) (w : wp_J8_putTreeVal_b215 G27 K h l1 l2 l3 l4 l5 l6 l8 l10 l13 s0) : Gd X h 215 [none, some (vR [2, 3] l1), some (vR [51] l2), some (vI l3), some (vR [4, 60] l4), some (vR [4, 60] l5), some (vR [] l6), none, some (vR [7] l8), none, some (vI l10), none, none, some (vR [7] l13), none, none] [vR [7] s0] := by
  unfold wp_J8_putTreeVal_b215 at w
  refine g_dup 216 rfl C dJ8_putTreeVal_215 rfl ?_
  refine g_astore 218 rfl C dJ8_putTreeVal_216 (by decide) (rfl : _ = [none, some (vR [2, 3] _), some (vR [51] _), some (vI _), some (vR [4, 60] _), some (vR [4, 60] _), some (vR [] _), none, some (vR [7] _), some (vR [7] _), some (vI _), none, none, some (vR [7] _), none, none]) ?_
  refine g_ifnonnull 221 311 rfl C dJ8_putTreeVal_218 rfl (fun a129 u128 => ?_) (fun u128 => ?_)
  · have w := w.2 a129 u128
    refine g_goto 27 C dJ8_putTreeVal_311 rfl ?_
    refine g_sub [none, some none, some none, some none, some none, some none, some none, none, some none, some none, none, none, none, none, none, none] [] rfl rfl ?_
    exact k27 _ _ _ _ _ _ _ _ _ w
  · have w := w.1 u128
    refine g_aload 223 rfl C dJ8_putTreeVal_221 rfl ?_
    obtain ⟨a130, e131, w⟩ := w
    refine g_getR 226 rfl C dJ8_putTreeVal_223 fl_HashMap_TreeNode_22 rfl e131 rfl ?_
    refine g_astore 228 rfl C dJ8_putTreeVal_226 (by decide) (rfl : _ = [none, some (vR [2, 3] _), some (vR [51] _), some (vI _), some (vR [4, 60] _), some (vR [4, 60] _), some (vR [] _), none, some (vR [7] _), some (vR [7] _), some (vI _), none, none, some (vR [7] _), some (vR [5, 6, 7] _), none]) ?_
    refine g_aload_n 229 rfl C dJ8_putTreeVal_228 rfl ?_
    refine g_iload_n 230 rfl C dJ8_putTreeVal_229 rfl ?_
    refine g_aload 232 rfl C dJ8_putTreeVal_230 rfl ?_
    refine g_aload 234 rfl C dJ8_putTreeVal_232 rfl ?_
    refine g_aload 236 rfl C dJ8_putTreeVal_234 rfl ?_
    rcases w with w | w
    · obtain ⟨a132, e133, w⟩ := w
      obtain ⟨k134, w⟩ := w
      refine g_callU (As := [vI _, vR [4, 60] _, vR [4, 60] _, vR [5, 6, 7] _]) (T := [2, 3]) (st := []) "java/util/HashMap" 239 rfl C dJ8_putTreeVal_236 q409 q412 dcl_20c672 q411 q410 q11 q445 okn_bab38a (by decide) (by decide) (Nat.le_of_ble_eq_true rfl) e133 (fun _ => kC rfl k134) rfl (ct_J1_newTreeNode C.glob w) (fun r0 h136 p137 x138 _ => ?_)
      obtain ⟨r135, rfl, w⟩ := p137
      have w := w x138
      change Gd _ _ _ _ (vR [7] r135 :: [])
      refine g_sub [none, none, some none, none, none, none, none, none, some none, none, some none, none, none, some none, some none, none] [none] rfl rfl ?_
      exact wk_J8_putTreeVal_b239 C Rr N _ _ _ _ _ _ _ w
    · obtain ⟨a139, e140, w⟩ := w
      obtain ⟨k141, w⟩ := w
      refine g_nar 4 [3] rfl e140 (by rw [k141]; decide) ?_
      refine g_callU (As := [vI _, vR [4, 60] _, vR [4, 60] _, vR [5, 6, 7] _]) (T := [3]) (st := []) "java/util/LinkedHashMap" 239 rfl C dJ8_putTreeVal_236 q409 q412 dcl_20c672 q413 q414 q12 q415 okn_bab38a (by decide) (by decide) (Nat.le_of_ble_eq_true rfl) e140 (fun _ => kC rfl k141) rfl (ct_J2_newTreeNode C.glob w) (fun r0 h143 p144 x145 _ => ?_)
      obtain ⟨r142, rfl, w⟩ := p144
      have w := w x145
      change Gd _ _ _ _ (vR [7] r142 :: [])
      refine g_sub [none, none, some none, none, none, none, none, none, some none, none, some none, none, none, some none, some none, none] [none] rfl rfl ?_
      exact wk_J8_putTreeVal_b239 C Rr N _ _ _ _ _ _ _ w
def wp_J8_putTreeVal_b193 (G27 : Hp → Option Nat → Option Nat → Int32 → Option Nat → Option Nat → Option Nat → Option Nat → Option Nat → Prop) (K : Option Nat → Hp → Prop) (h : Hp) (l1 : Option Nat) (l2 : Option Nat) (l3 : Int32) (l4 : Option Nat) (l5 : Option Nat) (l6 : Option Nat) (l8 : Option Nat) (l9 : Option Nat) (l10 : Int32) : Prop :=
  ((0 < l10 → (∃ a96, l9 = some a96 ∧ (wp_J8_putTreeVal_b215 G27 K h l1 l2 l3 l4 l5 l6 l8 l10 l9 (rf h 8 a96)))) ∧ (¬ 0 < l10 → (∃ a98, l9 = some a98 ∧ (wp_J8_putTreeVal_b215 G27 K h l1 l2 l3 l4 l5 l6 l8 l10 l9 (rf h 7 a98)))))
set_option maxHeartbeats 4000000 in
theorem wk_J8_putTreeVal_b193 {X : Fx} {K : Option Nat → Hp → Prop} (C : Cx X cJ8_putTreeVal yJ8_putTreeVal.cls 16 6) (Rr : Rx X (Option.some (Jvm.ClassFile.FieldType.object "java/util/HashMap$TreeNode")) (pR [7] K)) (N : Nm X yJ8_putTreeVal.name) {G27 : Hp → Option Nat → Option Nat → Int32 → Option Nat → Option Nat → Option Nat → Option Nat → Option Nat → Prop} (k27 : ∀ (h : Hp) (l1 : Option Nat) (l2 : Option Nat) (l3 : Int32) (l4 : Option Nat) (l5 : Option Nat) (l6 : Option Nat) (l8 : Option Nat) (l9 : Option Nat), G27 h l1 l2 l3 l4 l5 l6 l8 l9 → Gd X h 27 [none, some (vR [2, 3] l1), some (vR [51] l2), some (vI l3), some (vR [4, 60] l4), some (vR [4, 60] l5), some (vR [] l6), none, some (vR [7] l8), some (vR [7] l9), none, none, none, none, none, none] []) (h : Hp) (l1 : Option Nat) (l2 : Option Nat) (l3 : Int32) (l4 : Option Nat) (l5 : Option Nat) (l6 : Option Nat) (l8 : Option Nat) (l9 : Option Nat) (l10 : Int32) (w : wp_J8_putTreeVal_b193 G27 K h l1 l2 l3 l4 l5 l6 l8 l9 l10) : Gd X h 193 [none, some (vR [2, 3] l1), some (vR [51] l2), some (vI l3), some (vR [4, 60] l4), some (vR [4, 60] l5), some (vR [] l6), none, some (vR [7] l8), some (vR [7] l9), some (vI l10), none, none, none, none, none] [] := by
  unfold wp_J8_putTreeVal_b193 at w
  refine g_aload 195 rfl C dJ8_putTreeVal_193 rfl ?_
  refine g_astore 197 rfl C dJ8_putTreeVal_195 (by decide) (rfl : _ = [none, some (vR [2, 3] _), some (vR [51] _), some (vI _), some (vR [4, 60] _), some (vR [4, 60] _), some (vR [] _), none, some (vR [7] _), some (vR [7] _), some (vI _), none, none, some (vR [7] _), none, none]) ?_
  refine g_iload 199 rfl C dJ8_putTreeVal_197 rfl ?_
  refine g_if_gt 202 210 rfl C dJ8_putTreeVal_199 rfl (fun u95 => ?_) (fun u95 => ?_)
  · have w := w.1 u95
    refine g_aload 212 rfl C dJ8_putTreeVal_210 rfl ?_
    obtain ⟨a96, e97, w⟩ := w
    refine g_getR 215 rfl C dJ8_putTreeVal_212 fl_HashMap_TreeNode_42 rfl e97 rfl ?_
    refine g_sub [none, some none, some none, some none, some none, some none, some none, none, some none, none, some none, none, none, some none, none, none] [none] rfl rfl ?_
    exact wk_J8_putTreeVal_b215 C Rr N k27 _ _ _ _ _ _ _ _ _ _ _ w
  · have w := w.2 u95
    refine g_aload 204 rfl C dJ8_putTreeVal_202 rfl ?_
    obtain ⟨a98, e99, w⟩ := w
    refine g_getR 207 rfl C dJ8_putTreeVal_204 fl_HashMap_TreeNode_39 rfl e99 rfl ?_
    refine g_goto 215 C dJ8_putTreeVal_207 rfl ?_
    refine g_sub [none, some none, some none, some none, some none, some none, some none, none, some none, none, some none, none, none, some none, none, none] [none] rfl rfl ?_
    exact wk_J8_putTreeVal_b215 C Rr N k27 _ _ _ _ _ _ _ _ _ _ _ w
def wp_J8_putTreeVal_b27 (K : Option Nat → Hp → Prop) : Nat → Hp → Option Nat → Option Nat → Int32 → Option Nat → Option Nat → Option Nat → Option Nat → Option Nat → Prop
  | 0 => fun _ _ _ _ _ _ _ _ _ => False
  | m9 + 1 => fun h l1 l2 l3 l4 l5 l6 l8 l9 =>
    (∃ a148, l9 = some a148 ∧ (((it h 0 a148) ≤ l3 → ((l3 ≤ (it h 0 a148) → (((rf h 1 a148) = l4 → (wp_J8_putTreeVal_b85 K h l9)) ∧ (¬ (rf h 1 a148) = l4 → ((l4 = none → (wp_J8_putTreeVal_b88 K h l4 l6 (rf h 1 a148))) ∧ (∀ a154, l4 = some a154 → (wp_J5_equals h l4 (rf h 1 a148) (fun r156 h157 => Ex h h157 → ((r156 = 0 → (wp_J8_putTreeVal_b88 K h157 l4 l6 (rf h 1 a148))) ∧ (¬ r156 = 0 → (wp_J8_putTreeVal_b85 K h157 l9)))))))))) ∧ (¬ l3 ≤ (it h 0 a148) → (wp_J8_putTreeVal_b193 (wp_J8_putTreeVal_b27 K m9) K h l1 l2 l3 l4 l5 l6 l8 l9 1)))) ∧ (¬ (it h 0 a148) ≤ l3 → (wp_J8_putTreeVal_b193 (wp_J8_putTreeVal_b27 K m9) K h l1 l2 l3 l4 l5 l6 l8 l9 (-1)))))
set_option maxHeartbeats 4000000 in
theorem wk_J8_putTreeVal_b27 {X : Fx} {K : Option Nat → Hp → Prop} (C : Cx X cJ8_putTreeVal yJ8_putTreeVal.cls 16 6) (Rr : Rx X (Option.some (Jvm.ClassFile.FieldType.object "java/util/HashMap$TreeNode")) (pR [7] K)) (N : Nm X yJ8_putTreeVal.name) : ∀ (n : Nat) (h : Hp) (l1 : Option Nat) (l2 : Option Nat) (l3 : Int32) (l4 : Option Nat) (l5 : Option Nat) (l6 : Option Nat) (l8 : Option Nat) (l9 : Option Nat), wp_J8_putTreeVal_b27 K n h l1 l2 l3 l4 l5 l6 l8 l9 → Gd X h 27 [none, some (vR [2, 3] l1), some (vR [51] l2), some (vI l3), some (vR [4, 60] l4), some (vR [4, 60] l5), some (vR [] l6), none, some (vR [7] l8), some (vR [7] l9), none, none, none, none, none, none] [] := by
  intro n
  induction n with
  | zero => intro h l1 l2 l3 l4 l5 l6 l8 l9 w; exact w.elim
  | succ n ih =>
    intro h l1 l2 l3 l4 l5 l6 l8 l9 w
    unfold wp_J8_putTreeVal_b27 at w
    refine g_aload 29 rfl C dJ8_putTreeVal_27 rfl ?_
    obtain ⟨a148, e149, w⟩ := w
    refine g_getI 32 rfl C dJ8_putTreeVal_29 fl_HashMap_TreeNode_15 rfl e149 rfl ?_
    refine g_dup 33 rfl C dJ8_putTreeVal_32 rfl ?_
    refine g_istore 35 rfl C dJ8_putTreeVal_33 (by decide) (rfl : _ = [none, some (vR [2, 3] _), some (vR [51] _), some (vI _), some (vR [4, 60] _), some (vR [4, 60] _), some (vR [] _), none, some (vR [7] _), some (vR [7] _), none, some (vI _), none, none, none, none]) ?_
    refine g_iload_n 36 rfl C dJ8_putTreeVal_35 rfl ?_
    refine g_icmp_le 39 45 rfl C dJ8_putTreeVal_36 rfl (fun u150 => ?_) (fun u150 => ?_)
    · have w := w.1 u150
      refine g_iload 47 rfl C dJ8_putTreeVal_45 rfl ?_
      refine g_iload_n 48 rfl C dJ8_putTreeVal_47 rfl ?_
      refine g_icmp_ge 51 57 rfl C dJ8_putTreeVal_48 rfl (fun u151 => ?_) (fun u151 => ?_)
      · have w := w.1 u151
        refine g_aload 59 rfl C dJ8_putTreeVal_57 rfl ?_
        refine g_getR 62 rfl C dJ8_putTreeVal_59 fl_HashMap_TreeNode_45 rfl e149 rfl ?_
        refine g_dup 63 rfl C dJ8_putTreeVal_62 rfl ?_
        refine g_astore 65 rfl C dJ8_putTreeVal_63 (by decide) (rfl : _ = [none, some (vR [2, 3] _), some (vR [51] _), some (vI _), some (vR [4, 60] _), some (vR [4, 60] _), some (vR [] _), none, some (vR [7] _), some (vR [7] _), none, some (vI _), some (vR [4, 60] _), none, none, none]) ?_
        refine g_aload 67 rfl C dJ8_putTreeVal_65 rfl ?_
        refine g_acmp_eq 70 85 rfl C dJ8_putTreeVal_67 rfl (fun u152 => ?_) (fun u152 => ?_)
        · have w := w.1 u152
          refine g_sub [none, none, none, none, none, none, none, none, none, some none, none, none, none, none, none, none] [] rfl rfl ?_
          exact wk_J8_putTreeVal_b85 C Rr N _ _ w
        · have w := w.2 u152
          refine g_aload 72 rfl C dJ8_putTreeVal_70 rfl ?_
          refine g_ifnull 75 88 rfl C dJ8_putTreeVal_72 rfl (fun u153 => ?_) (fun a154 u153 => ?_)
          · have w := w.1 u153
            refine g_sub [none, none, none, none, some none, none, some none, none, none, none, none, none, some none, none, none, none] [] rfl rfl ?_
            exact wk_J8_putTreeVal_b88 C Rr N _ _ _ _ w
          · have w := w.2 a154 u153
            refine g_aload 77 rfl C dJ8_putTreeVal_75 rfl ?_
            refine g_aload 79 rfl C dJ8_putTreeVal_77 rfl ?_
            refine g_callU (As := [vR [4, 60] _]) (T := [4, 60]) (st := []) "java/lang/Integer" 82 rfl C dJ8_putTreeVal_79 q404 q384 dcl_e59518 q388 q389 q15 q390 okn_ad8bbc (by decide) (by decide) (Nat.le_of_ble_eq_true rfl) u153 (fun q => tC rfl q) rfl (ct_J5_equals C.glob w) (fun r0 h157 p158 x159 _ => ?_)
            obtain ⟨r156, rfl, w⟩ := p158
            have w := w x159
            change Gd _ _ _ _ (vI r156 :: [])
            refine g_if_eq 85 88 rfl C dJ8_putTreeVal_82 rfl (fun u160 => ?_) (fun u160 => ?_)
            · have w := w.1 u160
              refine g_sub [none, none, none, none, some none, none, some none, none, none, none, none, none, some none, none, none, none] [] rfl rfl ?_
              exact wk_J8_putTreeVal_b88 C Rr N _ _ _ _ w
            · have w := w.2 u160
              refine g_sub [none, none, none, none, none, none, none, none, none, some none, none, none, none, none, none, none] [] rfl rfl ?_
              exact wk_J8_putTreeVal_b85 C Rr N _ _ w
      · have w := w.2 u151
        refine g_iconst 52 rfl C dJ8_putTreeVal_51 1 rfl ?_
        refine g_istore 54 rfl C dJ8_putTreeVal_52 (by decide) (rfl : _ = [none, some (vR [2, 3] _), some (vR [51] _), some (vI _), some (vR [4, 60] _), some (vR [4, 60] _), some (vR [] _), none, some (vR [7] _), some (vR [7] _), some (vI _), some (vI _), none, none, none, none]) ?_
        refine g_goto 193 C dJ8_putTreeVal_54 rfl ?_
        refine g_sub [none, some none, some none, some none, some none, some none, some none, none, some none, some none, some none, none, none, none, none, none] [] rfl rfl ?_
        exact wk_J8_putTreeVal_b193 C Rr N ih _ _ _ _ _ _ _ _ _ _ w
    · have w := w.2 u150
      refine g_iconst 40 rfl C dJ8_putTreeVal_39 (-1) rfl ?_
      refine g_istore 42 rfl C dJ8_putTreeVal_40 (by decide) (rfl : _ = [none, some (vR [2, 3] _), some (vR [51] _), some (vI _), some (vR [4, 60] _), some (vR [4, 60] _), some (vR [] _), none, some (vR [7] _), some (vR [7] _), some (vI _), some (vI _), none, none, none, none]) ?_
      refine g_goto 193 C dJ8_putTreeVal_42 rfl ?_
      refine g_sub [none, some none, some none, some none, some none, some none, some none, none, some none, some none, some none, none, none, none, none, none] [] rfl rfl ?_
      exact wk_J8_putTreeVal_b193 C Rr N ih _ _ _ _ _ _ _ _ _ _ w
def wp_J8_putTreeVal_b21 (K : Option Nat → Hp → Prop) (h : Hp) (l1 : Option Nat) (l2 : Option Nat) (l3 : Int32) (l4 : Option Nat) (l5 : Option Nat) (l6 : Option Nat) (s0 : Option Nat) : Prop :=
  (∃ n, wp_J8_putTreeVal_b27 K n h l1 l2 l3 l4 l5 l6 s0 s0)
set_option maxHeartbeats 4000000 in
theorem wk_J8_putTreeVal_b21 {X : Fx} {K : Option Nat → Hp → Prop} (C : Cx X cJ8_putTreeVal yJ8_putTreeVal.cls 16 6) (Rr : Rx X (Option.some (Jvm.ClassFile.FieldType.object "java/util/HashMap$TreeNode")) (pR [7] K)) (N : Nm X yJ8_putTreeVal.name) (h : Hp) (l1 : Option Nat) (l2 : Option Nat) (l3 : Int32) (l4 : Option Nat) (l5 : Option Nat) (l6 : Option Nat) (s0 : Option Nat) (w : wp_J8_putTreeVal_b21 K h l1 l2 l3 l4 l5 l6 s0) : Gd X h 21 [none, some (vR [2, 3] l1), some (vR [51] l2), some (vI l3), some (vR [4, 60] l4), some (vR [4, 60] l5), some (vR [] l6), none, none, none, none, none, none, none, none, none] [vR [7] s0] := by
  unfold wp_J8_putTreeVal_b21 at w
  refine g_astore 23 rfl C dJ8_putTreeVal_21 (by decide) (rfl : _ = [none, some (vR [2, 3] _), some (vR [51] _), some (vI _), some (vR [4, 60] _), some (vR [4, 60] _), some (vR [] _), none, some (vR [7] _), none, none, none, none, none, none, none]) ?_
  refine g_aload 25 rfl C dJ8_putTreeVal_23 rfl ?_
  refine g_astore 27 rfl C dJ8_putTreeVal_25 (by decide) (rfl : _ = [none, some (vR [2, 3] _), some (vR [51] _), some (vI _), some (vR [4, 60] _), some (vR [4, 60] _), some (vR [] _), none, some (vR [7] _), some (vR [7] _), none, none, none, none, none, none]) ?_
  refine g_sub [none, some none, some none, some none, some none, some none, some none, none, some none, some none, none, none, none, none, none, none] [] rfl rfl ?_
  obtain ⟨n9, w⟩ := w
  exact wk_J8_putTreeVal_b27 C Rr N n9 _ _ _ _ _ _ _ _ _ w
def wp_J8_putTreeVal (h : Hp) (x0 : Option Nat) (x1 : Option Nat) (x2 : Option Nat) (x3 : Int32) (x4 : Option Nat) (x5 : Option Nat) (K : Option Nat → Hp → Prop) : Prop :=
  (∃ a86, x0 = some a86 ∧ (((rf h 6 a86) = none → (wp_J8_putTreeVal_b21 K h x1 x2 x3 x4 x5 none x0)) ∧ (∀ a89, (rf h 6 a86) = some a89 → (wp_J8_root h x0 (fun r91 h92 => Ex h h92 → (wp_J8_putTreeVal_b21 K h92 x1 x2 x3 x4 x5 none r91))))))
set_option maxHeartbeats 4000000 in
theorem wk_J8_putTreeVal {X : Fx} {K : Option Nat → Hp → Prop} (C : Cx X cJ8_putTreeVal yJ8_putTreeVal.cls 16 6) (Rr : Rx X (Option.some (Jvm.ClassFile.FieldType.object "java/util/HashMap$TreeNode")) (pR [7] K)) (N : Nm X yJ8_putTreeVal.name) (h : Hp) (x0 : Option Nat) (x1 : Option Nat) (x2 : Option Nat) (x3 : Int32) (x4 : Option Nat) (x5 : Option Nat) (w : wp_J8_putTreeVal h x0 x1 x2 x3 x4 x5 K) : Gd X h 0 [some (vR [7] x0), some (vR [2, 3] x1), some (vR [51] x2), some (vI x3), some (vR [4, 60] x4), some (vR [4, 60] x5), none, none, none, none, none, none, none, none, none, none] [] := by
  unfold wp_J8_putTreeVal at w
  refine g_null 1 rfl C dJ8_putTreeVal_0 ?_
  refine g_astore 3 rfl C dJ8_putTreeVal_1 (by decide) (rfl : _ = [some (vR [7] _), some (vR [2, 3] _), some (vR [51] _), some (vI _), some (vR [4, 60] _), some (vR [4, 60] _), some (vR [] _), none, none, none, none, none, none, none, none, none]) ?_
  refine g_iconst 4 rfl C dJ8_putTreeVal_3 0 rfl ?_
  refine g_istore 6 rfl C dJ8_putTreeVal_4 (by decide) (rfl : _ = [some (vR [7] _), some (vR [2, 3] _), some (vR [51] _), some (vI _), some (vR [4, 60] _), some (vR [4, 60] _), some (vR [] _), some (vI _), none, none, none, none, none, none, none, none]) ?_
  refine g_aload_n 7 rfl C dJ8_putTreeVal_6 rfl ?_
  obtain ⟨a86, e87, w⟩ := w
  refine g_getR 10 rfl C dJ8_putTreeVal_7 fl_HashMap_TreeNode_9 rfl e87 rfl ?_
  refine g_ifnull 13 20 rfl C dJ8_putTreeVal_10 rfl (fun u88 => ?_) (fun a89 u88 => ?_)
  · have w := w.1 u88
    refine g_aload_n 21 rfl C dJ8_putTreeVal_20 rfl ?_
    refine g_sub [none, some none, some none, some none, some none, some none, some none, none, none, none, none, none, none, none, none, none] [none] rfl rfl ?_
    exact wk_J8_putTreeVal_b21 C Rr N _ _ _ _ _ _ _ _ w
  · have w := w.2 a89 u88
    refine g_aload_n 14 rfl C dJ8_putTreeVal_13 rfl ?_
    refine g_callV (As := []) (T := [7]) (st := []) "java/util/HashMap$TreeNode" 17 rfl C dJ8_putTreeVal_14 q400 q401 q402 q21 q403 rfl okn_0e0e18 (by decide) (by decide) (Nat.le_of_ble_eq_true rfl) e87 (fun q => tC rfl q) rfl (ct_J8_root C.glob w) (fun r0 h92 p93 x94 _ => ?_)
    obtain ⟨r91, rfl, w⟩ := p93
    have w := w x94
    change Gd _ _ _ _ (vR [7] r91 :: [])
    refine g_goto 21 C dJ8_putTreeVal_17 rfl ?_
    refine g_sub [none, some none, some none, some none, some none, some none, some none, none, none, none, none, none, none, none, none, none] [none] rfl rfl ?_
    exact wk_J8_putTreeVal_b21 C Rr N _ _ _ _ _ _ _ _ w
theorem ct_J8_putTreeVal {E : Gx} (GE : Glob E) {h : Hp} {x0 : Option Nat} {x1 : Option Nat} {x2 : Option Nat} {x3 : Int32} {x4 : Option Nat} {x5 : Option Nat} {K : Option Nat → Hp → Prop} (w : wp_J8_putTreeVal h x0 x1 x2 x3 x4 x5 K) : Ct E yJ8_putTreeVal cJ8_putTreeVal 16 (Option.some (Jvm.ClassFile.FieldType.object "java/util/HashMap$TreeNode")) 6 [vR [7] x0, vR [2, 3] x1, vR [51] x2, vI x3, vR [4, 60] x4, vR [4, 60] x5] h (pR [7] K) :=
  Ct.of GE (by decide +kernel) (by simp [lvA, t2]) rfl (fun X hX C Rr N => wk_J8_putTreeVal C Rr N h x0 x1 x2 x3 x4 x5 w)
