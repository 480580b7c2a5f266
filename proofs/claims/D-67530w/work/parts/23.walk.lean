/-! WALKS (printed by emit.py): J1_putVal J1_put J1_putIfAbsent J1_getOrDefault J1_afterNodeRemoval J2_afterNodeRemoval J8_balanceDeletion -/
set_option maxRecDepth 100000
def wp_J1_putVal_b298 (K : Option Nat → Hp → Prop) (h : Hp)  : Prop :=
  (K none h)
set_option maxHeartbeats 4000000 in
theorem wk_J1_putVal_b298 {X : Fx} {K : Option Nat → Hp → Prop} (C : Cx X cJ1_putVal yJ1_putVal.cls 13 9) (Rr : Rx X (Option.some (Jvm.ClassFile.FieldType.object "java/lang/Object")) (pR [4, 60] K)) (N : Nm X yJ1_putVal.name) (h : Hp)  (w : wp_J1_putVal_b298 K h ) : Gd X h 298 [none, none, none, none, none, none, none, none, none, none, none, none, none] [] := by
  unfold wp_J1_putVal_b298 at w
  refine g_null 299 rfl C dJ1_putVal_298 ?_
  exact g_areturn [4, 60] C Rr rfl dJ1_putVal_299 rfl ⟨_, rfl, w⟩
def wp_J1_putVal_b292 (K : Option Nat → Hp → Prop) (h : Hp) (l0 : Option Nat) (l5 : Int32) : Prop :=
  ((∃ a370, l0 = some a370 ∧ (kd h a370 = 2 ∧ (wp_J1_afterNodeInsertion h l0 l5 (fun h374 => Ex h h374 → (wp_J1_putVal_b298 K h374))))) ∨ (∃ a377, l0 = some a377 ∧ (kd h a377 = 3 ∧ (wp_J2_afterNodeInsertion h l0 l5 (fun h381 => Ex h h381 → (wp_J1_putVal_b298 K h381))))))
set_option maxHeartbeats 4000000 in
theorem wk_J1_putVal_b292 {X : Fx} {K : Option Nat → Hp → Prop} (C : Cx X cJ1_putVal yJ1_putVal.cls 13 9) (Rr : Rx X (Option.some (Jvm.ClassFile.FieldType.object "java/lang/Object")) (pR [4, 60] K)) (N : Nm X yJ1_putVal.name) (h : Hp) (l0 : Option Nat) (l5 : Int32) (w : wp_J1_putVal_b292 K h l0 l5) : Gd X h 292 [some (vR [2, 3] l0), none, none, none, none, some (vI l5), none, none, none, none, none, none, none] [] := by
  unfold wp_J1_putVal_b292 at w
  refine g_aload_n 293 rfl C dJ1_putVal_292 rfl ?_
  refine g_iload 295 rfl C dJ1_putVal_293 rfl ?_
  rcases w with w | w
  · obtain ⟨a370, e371, w⟩ := w
    obtain ⟨k372, w⟩ := w
    refine g_callU (As := [vI _]) (T := [2, 3]) (st := []) "java/util/HashMap" 298 rfl C dJ1_putVal_295 q470 q473 dcl_56d82d q472 q471 q11 q481 okn_28e131 (by decide) (by decide) (Nat.le_of_ble_eq_true rfl) e371 (fun _ => kC rfl k372) rfl (ct_J1_afterNodeInsertion C.glob w) (fun r0 h374 p375 x376 _ => ?_)
    obtain ⟨rfl, w⟩ := p375
    have w := w x376
    change Gd _ _ _ _ []
    refine g_sub [none, none, none, none, none, none, none, none, none, none, none, none, none] [] rfl rfl ?_
    exact wk_J1_putVal_b298 C Rr N _ w
  · obtain ⟨a377, e378, w⟩ := w
    obtain ⟨k379, w⟩ := w
    refine g_nar 1 [3] rfl e378 (by rw [k379]; decide) ?_
    refine g_callU (As := [vI _]) (T := [3]) (st := []) "java/util/LinkedHashMap" 298 rfl C dJ1_putVal_295 q470 q473 dcl_56d82d q474 q475 q12 q476 okn_28e131 (by decide) (by decide) (Nat.le_of_ble_eq_true rfl) e378 (fun _ => kC rfl k379) rfl (ct_J2_afterNodeInsertion C.glob w) (fun r0 h381 p382 x383 _ => ?_)
    obtain ⟨rfl, w⟩ := p382
    have w := w x383
    change Gd _ _ _ _ []
    refine g_sub [none, none, none, none, none, none, none, none, none, none, none, none, none] [] rfl rfl ?_
    exact wk_J1_putVal_b298 C Rr N _ w
def wp_J1_putVal_b291 (K : Option Nat → Hp → Prop) (h : Hp) (l0 : Option Nat) (l5 : Int32) (s0 : Option Nat) : Prop :=
  (wp_J1_putVal_b292 K h l0 l5)
set_option maxHeartbeats 4000000 in
theorem wk_J1_putVal_b291 {X : Fx} {K : Option Nat → Hp → Prop} (C : Cx X cJ1_putVal yJ1_putVal.cls 13 9) (Rr : Rx X (Option.some (Jvm.ClassFile.FieldType.object "java/lang/Object")) (pR [4, 60] K)) (N : Nm X yJ1_putVal.name) (h : Hp) (l0 : Option Nat) (l5 : Int32) (s0 : Option Nat) (w : wp_J1_putVal_b291 K h l0 l5 s0) : Gd X h 291 [some (vR [2, 3] l0), none, none, none, none, some (vI l5), none, none, none, none, none, none, none] [vR [51] s0] := by
  unfold wp_J1_putVal_b291 at w
  refine g_pop 292 rfl C dJ1_putVal_291 rfl ?_
  refine g_sub [some none, none, none, none, none, some none, none, none, none, none, none, none, none] [] rfl rfl ?_
  exact wk_J1_putVal_b292 C Rr N _ _ _ w
def wp_J1_putVal_b259 (K : Option Nat → Hp → Prop) (h : Hp) (l0 : Option Nat) (l5 : Int32) : Prop :=
  (∃ a275, l0 = some a275 ∧ (∀ h277, h277 = wI h 16 a275 ((it h 16 a275) + 1) → (∀ h278, h278 = wI h277 15 a275 ((it h277 15 a275) + 1) → ((((it h277 15 a275) + 1) ≤ (it h278 17 a275) → (wp_J1_putVal_b292 K h278 l0 l5)) ∧ (¬ ((it h277 15 a275) + 1) ≤ (it h278 17 a275) → (wp_J1_resize h278 l0 (fun r281 h282 => Ex h278 h282 → (wp_J1_putVal_b291 K h282 l0 l5 r281))))))))
set_option maxHeartbeats 4000000 in
theorem wk_J1_putVal_b259 {X : Fx} {K : Option Nat → Hp → Prop} (C : Cx X cJ1_putVal yJ1_putVal.cls 13 9) (Rr : Rx X (Option.some (Jvm.ClassFile.FieldType.object "java/lang/Object")) (pR [4, 60] K)) (N : Nm X yJ1_putVal.name) (h : Hp) (l0 : Option Nat) (l5 : Int32) (w : wp_J1_putVal_b259 K h l0 l5) : Gd X h 259 [some (vR [2, 3] l0), none, none, none, none, some (vI l5), none, none, none, none, none, none, none] [] := by
  unfold wp_J1_putVal_b259 at w
  refine g_aload_n 260 rfl C dJ1_putVal_259 rfl ?_
  refine g_dup 261 rfl C dJ1_putVal_260 rfl ?_
  obtain ⟨a275, e276, w⟩ := w
  refine g_getI 264 rfl C dJ1_putVal_261 fl_HashMap_202 rfl e276 rfl ?_
  refine g_iconst 265 rfl C dJ1_putVal_264 1 rfl ?_
  refine g_iadd 266 rfl C dJ1_putVal_265 ?_
  refine g_putI 269 rfl C dJ1_putVal_266 fl_HashMap_202 rfl rfl e276 rfl ?_
  have w := w _ rfl
  refine g_aload_n 270 rfl C dJ1_putVal_269 rfl ?_
  refine g_dup 271 rfl C dJ1_putVal_270 rfl ?_
  refine g_getI 274 rfl C dJ1_putVal_271 fl_HashMap_156 rfl e276 rfl ?_
  refine g_iconst 275 rfl C dJ1_putVal_274 1 rfl ?_
  refine g_iadd 276 rfl C dJ1_putVal_275 ?_
  refine g_dup_x1 277 rfl C dJ1_putVal_276 rfl rfl ?_
  refine g_putI 280 rfl C dJ1_putVal_277 fl_HashMap_156 rfl rfl e276 rfl ?_
  have w := w _ rfl
  refine g_aload_n 281 rfl C dJ1_putVal_280 rfl ?_
  refine g_getI 284 rfl C dJ1_putVal_281 fl_HashMap_88 rfl e276 rfl ?_
  refine g_icmp_le 287 292 rfl C dJ1_putVal_284 rfl (fun u279 => ?_) (fun u279 => ?_)
  · have w := w.1 u279
    refine g_sub [some none, none, none, none, none, some none, none, none, none, none, none, none, none] [] rfl rfl ?_
    exact wk_J1_putVal_b292 C Rr N _ _ _ w
  · have w := w.2 u279
    refine g_aload_n 288 rfl C dJ1_putVal_287 rfl ?_
    refine g_known 0 rfl e276 (fun k280 => ?_)
    have k280 : kd _ _ ∈ [2, 3] := k280
    simp only [List.mem_cons, List.not_mem_nil, or_false] at k280
    rcases k280 with k280 | k280
    · refine g_callU (As := []) (T := [2, 3]) (st := []) "java/util/HashMap" 291 rfl C dJ1_putVal_288 q212 q215 dcl_c76c33 q214 q213 q11 q217 okn_4da807 (by decide) (by decide) (Nat.le_of_ble_eq_true rfl) e276 (fun _ => kC rfl k280) rfl (ct_J1_resize C.glob w) (fun r0 h282 p283 x284 _ => ?_)
      obtain ⟨r281, rfl, w⟩ := p283
      have w := w x284
      change Gd _ _ _ _ (vR [51] r281 :: [])
      refine g_sub [some none, none, none, none, none, some none, none, none, none, none, none, none, none] [none] rfl rfl ?_
      exact wk_J1_putVal_b291 C Rr N _ _ _ _ w
    · refine g_callU (As := []) (T := [2, 3]) (st := []) "java/util/LinkedHashMap" 291 rfl C dJ1_putVal_288 q212 q215 dcl_c76c33 q216 q213 q11 q217 okn_4da807 (by decide) (by decide) (Nat.le_of_ble_eq_true rfl) e276 (fun _ => kC rfl k280) rfl (ct_J1_resize C.glob w) (fun r0 h282 p283 x284 _ => ?_)
      obtain ⟨r281, rfl, w⟩ := p283
      have w := w x284
      change Gd _ _ _ _ (vR [51] r281 :: [])
      refine g_sub [some none, none, none, none, none, some none, none, none, none, none, none, none, none] [none] rfl rfl ?_
      exact wk_J1_putVal_b291 C Rr N _ _ _ _ w
def wp_J1_putVal_b59 (K : Option Nat → Hp → Prop) (h : Hp) (l0 : Option Nat) (l5 : Int32) (s0 : Option Nat) (s1 : Int32) (s2 : Option Nat) : Prop :=
  (∃ a410, s2 = some a410 ∧ (∃ j412, s1 = nI j412 ∧ j412 < ln h a410 ∧ ∀ h415, h415 = wR h (100 + j412) a410 s0 → (wp_J1_putVal_b259 K h415 l0 l5)))
set_option maxHeartbeats 4000000 in
theorem wk_J1_putVal_b59 {X : Fx} {K : Option Nat → Hp → Prop} (C : Cx X cJ1_putVal yJ1_putVal.cls 13 9) (Rr : Rx X (Option.some (Jvm.ClassFile.FieldType.object "java/lang/Object")) (pR [4, 60] K)) (N : Nm X yJ1_putVal.name) (h : Hp) (l0 : Option Nat) (l5 : Int32) (s0 : Option Nat) (s1 : Int32) (s2 : Option Nat) (w : wp_J1_putVal_b59 K h l0 l5 s0 s1 s2) : Gd X h 59 [some (vR [2, 3] l0), none, none, none, none, some (vI l5), none, none, none, none, none, none, none] [vR [5, 6, 7] s0, vI s1, vR [51] s2] := by
  unfold wp_J1_putVal_b59 at w
  obtain ⟨a410, e411, w⟩ := w
  obtain ⟨j412, e413, e414, w⟩ := w
  refine g_aastore 51 60 rfl C dJ1_putVal_59 (by decide) rfl e411 e413 e414 ?_
  have w := w _ rfl
  refine g_goto 259 C dJ1_putVal_60 rfl ?_
  refine g_sub [some none, none, none, none, none, some none, none, none, none, none, none, none, none] [] rfl rfl ?_
  exact wk_J1_putVal_b259 C Rr N _ _ _ w
def wp_J1_putVal_b256 (K : Option Nat → Hp → Prop) (h : Hp) (l12 : Option Nat) : Prop :=
  (K l12 h)
set_option maxHeartbeats 4000000 in
theorem wk_J1_putVal_b256 {X : Fx} {K : Option Nat → Hp → Prop} (C : Cx X cJ1_putVal yJ1_putVal.cls 13 9) (Rr : Rx X (Option.some (Jvm.ClassFile.FieldType.object "java/lang/Object")) (pR [4, 60] K)) (N : Nm X yJ1_putVal.name) (h : Hp) (l12 : Option Nat) (w : wp_J1_putVal_b256 K h l12) : Gd X h 256 [none, none, none, none, none, none, none, none, none, none, none, none, some (vR [4, 60] l12)] [] := by
  unfold wp_J1_putVal_b256 at w
  refine g_aload 258 rfl C dJ1_putVal_256 rfl ?_
  exact g_areturn [4, 60] C Rr rfl dJ1_putVal_258 rfl ⟨_, rfl, w⟩
def wp_J1_putVal_b250 (K : Option Nat → Hp → Prop) (h : Hp) (l0 : Option Nat) (l10 : Option Nat) (l12 : Option Nat) : Prop :=
  ((∃ a396, l0 = some a396 ∧ (kd h a396 = 2 ∧ (wp_J1_afterNodeAccess h l0 l10 (fun h400 => Ex h h400 → (wp_J1_putVal_b256 K h400 l12))))) ∨ (∃ a403, l0 = some a403 ∧ (kd h a403 = 3 ∧ (wp_J2_afterNodeAccess h l0 l10 (fun h407 => Ex h h407 → (wp_J1_putVal_b256 K h407 l12))))))
set_option maxHeartbeats 4000000 in
theorem wk_J1_putVal_b250 {X : Fx} {K : Option Nat → Hp → Prop} (C : Cx X cJ1_putVal yJ1_putVal.cls 13 9) (Rr : Rx X (Option.some (Jvm.ClassFile.FieldType.object "java/lang/Object")) (pR [4, 60] K)) (N : Nm X yJ1_putVal.name) (h : Hp) (l0 : Option Nat) (l10 : Option Nat) (l12 : Option Nat) (w : wp_J1_putVal_b250 K h l0 l10 l12) : Gd X h 250 [some (vR [2, 3] l0), none, none, none, none, none, none, none, none, none, some (vR [5, 6, 7] l10), none, some (vR [4, 60] l12)] [] := by
  unfold wp_J1_putVal_b250 at w
  refine g_aload_n 251 rfl C dJ1_putVal_250 rfl ?_
  refine g_aload 253 rfl C dJ1_putVal_251 rfl ?_
  rcases w with w | w
  · obtain ⟨a396, e397, w⟩ := w
    obtain ⟨k398, w⟩ := w
    refine g_callU (As := [vR [5, 6, 7] _]) (T := [2, 3]) (st := []) "java/util/HashMap" 256 rfl C dJ1_putVal_253 q462 q465 dcl_2d753d q464 q463 q11 q469 okn_e49349 (by decide) (by decide) (Nat.le_of_ble_eq_true rfl) e397 (fun _ => kC rfl k398) rfl (ct_J1_afterNodeAccess C.glob w) (fun r0 h400 p401 x402 _ => ?_)
    obtain ⟨rfl, w⟩ := p401
    have w := w x402
    change Gd _ _ _ _ []
    refine g_sub [none, none, none, none, none, none, none, none, none, none, none, none, some none] [] rfl rfl ?_
    exact wk_J1_putVal_b256 C Rr N _ _ w
  · obtain ⟨a403, e404, w⟩ := w
    obtain ⟨k405, w⟩ := w
    refine g_nar 1 [3] rfl e404 (by rw [k405]; decide) ?_
    refine g_callU (As := [vR [5, 6, 7] _]) (T := [3]) (st := []) "java/util/LinkedHashMap" 256 rfl C dJ1_putVal_253 q462 q465 dcl_2d753d q466 q467 q12 q468 okn_e49349 (by decide) (by decide) (Nat.le_of_ble_eq_true rfl) e404 (fun _ => kC rfl k405) rfl (ct_J2_afterNodeAccess C.glob w) (fun r0 h407 p408 x409 _ => ?_)
    obtain ⟨rfl, w⟩ := p408
    have w := w x409
    change Gd _ _ _ _ []
    refine g_sub [none, none, none, none, none, none, none, none, none, none, none, none, some none] [] rfl rfl ?_
    exact wk_J1_putVal_b256 C Rr N _ _ w
def wp_J1_putVal_b244 (K : Option Nat → Hp → Prop) (h : Hp) (l0 : Option Nat) (l3 : Option Nat) (l10 : Option Nat) (l12 : Option Nat) : Prop :=
  (∃ a393, l10 = some a393 ∧ (∀ h395, h395 = wR h 2 a393 l3 → (wp_J1_putVal_b250 K h395 l0 l10 l12)))
set_option maxHeartbeats 4000000 in
theorem wk_J1_putVal_b244 {X : Fx} {K : Option Nat → Hp → Prop} (C : Cx X cJ1_putVal yJ1_putVal.cls 13 9) (Rr : Rx X (Option.some (Jvm.ClassFile.FieldType.object "java/lang/Object")) (pR [4, 60] K)) (N : Nm X yJ1_putVal.name) (h : Hp) (l0 : Option Nat) (l3 : Option Nat) (l10 : Option Nat) (l12 : Option Nat) (w : wp_J1_putVal_b244 K h l0 l3 l10 l12) : Gd X h 244 [some (vR [2, 3] l0), none, none, some (vR [4, 60] l3), none, none, none, none, none, none, some (vR [5, 6, 7] l10), none, some (vR [4, 60] l12)] [] := by
  unfold wp_J1_putVal_b244 at w
  refine g_aload 246 rfl C dJ1_putVal_244 rfl ?_
  refine g_aload_n 247 rfl C dJ1_putVal_246 rfl ?_
  obtain ⟨a393, e394, w⟩ := w
  refine g_putR 250 rfl C dJ1_putVal_247 fl_HashMap_162 rfl rfl rfl e394 rfl ?_
  have w := w _ rfl
  refine g_sub [some none, none, none, none, none, none, none, none, none, none, some none, none, some none] [] rfl rfl ?_
  exact wk_J1_putVal_b250 C Rr N _ _ _ _ w
def wp_J1_putVal_b222 (K : Option Nat → Hp → Prop) (h : Hp) (l0 : Option Nat) (l3 : Option Nat) (l4 : Int32) (l5 : Int32) (l10 : Option Nat) : Prop :=
  ((l10 = none → (wp_J1_putVal_b259 K h l0 l5)) ∧ (∀ a366, l10 = some a366 → ((l4 = 0 → (wp_J1_putVal_b244 K h l0 l3 l10 (rf h 2 a366))) ∧ (¬ l4 = 0 → (((rf h 2 a366) = none → (wp_J1_putVal_b244 K h l0 l3 l10 (rf h 2 a366))) ∧ (∀ a369, (rf h 2 a366) = some a369 → (wp_J1_putVal_b250 K h l0 l10 (rf h 2 a366))))))))
set_option maxHeartbeats 4000000 in
theorem wk_J1_putVal_b222 {X : Fx} {K : Option Nat → Hp → Prop} (C : Cx X cJ1_putVal yJ1_putVal.cls 13 9) (Rr : Rx X (Option.some (Jvm.ClassFile.FieldType.object "java/lang/Object")) (pR [4, 60] K)) (N : Nm X yJ1_putVal.name) (h : Hp) (l0 : Option Nat) (l3 : Option Nat) (l4 : Int32) (l5 : Int32) (l10 : Option Nat) (w : wp_J1_putVal_b222 K h l0 l3 l4 l5 l10) : Gd X h 222 [some (vR [2, 3] l0), none, none, some (vR [4, 60] l3), some (vI l4), some (vI l5), none, none, none, none, some (vR [5, 6, 7] l10), none, none] [] := by
  unfold wp_J1_putVal_b222 at w
  refine g_aload 224 rfl C dJ1_putVal_222 rfl ?_
  refine g_ifnull 227 259 rfl C dJ1_putVal_224 rfl (fun u365 => ?_) (fun a366 u365 => ?_)
  · have w := w.1 u365
    refine g_sub [some none, none, none, none, none, some none, none, none, none, none, none, none, none] [] rfl rfl ?_
    exact wk_J1_putVal_b259 C Rr N _ _ _ w
  · have w := w.2 a366 u365
    refine g_aload 229 rfl C dJ1_putVal_227 rfl ?_
    refine g_getR 232 rfl C dJ1_putVal_229 fl_HashMap_162 rfl u365 rfl ?_
    refine g_astore 234 rfl C dJ1_putVal_232 (by decide) (rfl : _ = [some (vR [2, 3] _), none, none, some (vR [4, 60] _), some (vI _), some (vI _), none, none, none, none, some (vR [5, 6, 7] _), none, some (vR [4, 60] _)]) ?_
    refine g_iload 236 rfl C dJ1_putVal_234 rfl ?_
    refine g_if_eq 239 244 rfl C dJ1_putVal_236 rfl (fun u367 => ?_) (fun u367 => ?_)
    · have w := w.1 u367
      refine g_sub [some none, none, none, some none, none, none, none, none, none, none, some none, none, some none] [] rfl rfl ?_
      exact wk_J1_putVal_b244 C Rr N _ _ _ _ _ w
    · have w := w.2 u367
      refine g_aload 241 rfl C dJ1_putVal_239 rfl ?_
      refine g_ifnonnull 244 250 rfl C dJ1_putVal_241 rfl (fun a369 u368 => ?_) (fun u368 => ?_)
      · have w := w.2 a369 u368
        refine g_sub [some none, none, none, none, none, none, none, none, none, none, some none, none, some none] [] rfl rfl ?_
        exact wk_J1_putVal_b250 C Rr N _ _ _ _ w
      · have w := w.1 u368
        refine g_sub [some none, none, none, some none, none, none, none, none, none, none, some none, none, some none] [] rfl rfl ?_
        exact wk_J1_putVal_b244 C Rr N _ _ _ _ _ w
def wp_J1_putVal_b97 (K : Option Nat → Hp → Prop) (h : Hp) (l0 : Option Nat) (l3 : Option Nat) (l4 : Int32) (l5 : Int32) (l7 : Option Nat) : Prop :=
  (wp_J1_putVal_b222 K h l0 l3 l4 l5 l7)
set_option maxHeartbeats 4000000 in
theorem wk_J1_putVal_b97 {X : Fx} {K : Option Nat → Hp → Prop} (C : Cx X cJ1_putVal yJ1_putVal.cls 13 9) (Rr : Rx X (Option.some (Jvm.ClassFile.FieldType.object "java/lang/Object")) (pR [4, 60] K)) (N : Nm X yJ1_putVal.name) (h : Hp) (l0 : Option Nat) (l3 : Option Nat) (l4 : Int32) (l5 : Int32) (l7 : Option Nat) (w : wp_J1_putVal_b97 K h l0 l3 l4 l5 l7) : Gd X h 97 [some (vR [2, 3] l0), none, none, some (vR [4, 60] l3), some (vI l4), some (vI l5), none, some (vR [5, 6, 7] l7), none, none, none, none, none] [] := by
  unfold wp_J1_putVal_b97 at w
  refine g_aload 99 rfl C dJ1_putVal_97 rfl ?_
  refine g_astore 101 rfl C dJ1_putVal_99 (by decide) (rfl : _ = [some (vR [2, 3] _), none, none, some (vR [4, 60] _), some (vI _), some (vI _), none, some (vR [5, 6, 7] _), none, none, some (vR [5, 6, 7] _), none, none]) ?_
  refine g_goto 222 C dJ1_putVal_101 rfl ?_
  refine g_sub [some none, none, none, some none, some none, some none, none, none, none, none, some none, none, none] [] rfl rfl ?_
  exact wk_J1_putVal_b222 C Rr N _ _ _ _ _ _ w
def wp_J1_putVal_b172 (K : Option Nat → Hp → Prop) (h : Hp) (l0 : Option Nat) (l3 : Option Nat) (l4 : Int32) (l5 : Int32) (l10 : Option Nat) : Prop :=
  (wp_J1_putVal_b222 K h l0 l3 l4 l5 l10)
set_option maxHeartbeats 4000000 in
theorem wk_J1_putVal_b172 {X : Fx} {K : Option Nat → Hp → Prop} (C : Cx X cJ1_putVal yJ1_putVal.cls 13 9) (Rr : Rx X (Option.some (Jvm.ClassFile.FieldType.object "java/lang/Object")) (pR [4, 60] K)) (N : Nm X yJ1_putVal.name) (h : Hp) (l0 : Option Nat) (l3 : Option Nat) (l4 : Int32) (l5 : Int32) (l10 : Option Nat) (w : wp_J1_putVal_b172 K h l0 l3 l4 l5 l10) : Gd X h 172 [some (vR [2, 3] l0), none, none, some (vR [4, 60] l3), some (vI l4), some (vI l5), none, none, none, none, some (vR [5, 6, 7] l10), none, none] [] := by
  unfold wp_J1_putVal_b172 at w
  refine g_goto 222 C dJ1_putVal_172 rfl ?_
  refine g_sub [some none, none, none, some none, some none, some none, none, none, none, none, some none, none, none] [] rfl rfl ?_
  exact wk_J1_putVal_b222 C Rr N _ _ _ _ _ _ w
def wp_J1_putVal_b155 (K : Option Nat → Hp → Prop) (h : Hp) (l0 : Option Nat) (l1 : Int32) (l3 : Option Nat) (l4 : Int32) (l5 : Int32) (l6 : Option Nat) (l10 : Option Nat) (l12 : Int32) (s0 : Option Nat) (s1 : Option Nat) : Prop :=
  (∃ a323, s1 = some a323 ∧ (∀ h325, h325 = wR h 3 a323 s0 → ((l12 < 7 → (wp_J1_putVal_b222 K h325 l0 l3 l4 l5 l10)) ∧ (¬ l12 < 7 → (∃ a327, l0 = some a327 ∧ (wp_J1_treeifyBin h325 l0 l6 l1 (fun h331 => Ex h325 h331 → (wp_J1_putVal_b172 K h331 l0 l3 l4 l5 l10))))))))
set_option maxHeartbeats 4000000 in
theorem wk_J1_putVal_b155 {X : Fx} {K : Option Nat → Hp → Prop} (C : Cx X cJ1_putVal yJ1_putVal.cls 13 9) (Rr : Rx X (Option.some (Jvm.ClassFile.FieldType.object "java/lang/Object")) (pR [4, 60] K)) (N : Nm X yJ1_putVal.name) (h : Hp) (l0 : Option Nat) (l1 : Int32) (l3 : Option Nat) (l4 : Int32) (l5 : Int32) (l6 : Option Nat) (l10 : Option Nat) (l12 : Int32) (s0 : Option Nat) (s1 : Option Nat) (w : wp_J1_putVal_b155 K h l0 l1 l3 l4 l5 l6 l10 l12 s0 s1) : Gd X h 155 [some (vR [2, 3] l0), some (vI l1), none, some (vR [4, 60] l3), some (vI l4), some (vI l5), some (vR [51] l6), none, none, none, some (vR [5, 6, 7] l10), none, some (vI l12)] [vR [5, 6, 7] s0, vR [5, 6, 7] s1] := by
  unfold wp_J1_putVal_b155 at w
  obtain ⟨a323, e324, w⟩ := w
  refine g_putR 158 rfl C dJ1_putVal_155 fl_HashMap_177 rfl rfl rfl e324 rfl ?_
  have w := w _ rfl
  refine g_iload 160 rfl C dJ1_putVal_158 rfl ?_
  refine g_bipush 162 rfl C dJ1_putVal_160 7 (by decide) ?_
  refine g_icmp_lt 165 222 rfl C dJ1_putVal_162 rfl (fun u326 => ?_) (fun u326 => ?_)
  · have w := w.1 u326
    refine g_sub [some none, none, none, some none, some none, some none, none, none, none, none, some none, none, none] [] rfl rfl ?_
    exact wk_J1_putVal_b222 C Rr N _ _ _ _ _ _ w
  · have w := w.2 u326
    refine g_aload_n 166 rfl C dJ1_putVal_165 rfl ?_
    refine g_aload 168 rfl C dJ1_putVal_166 rfl ?_
    refine g_iload_n 169 rfl C dJ1_putVal_168 rfl ?_
    obtain ⟨a327, e328, w⟩ := w
    refine g_known 2 rfl e328 (fun k329 => ?_)
    have k329 : kd _ _ ∈ [2, 3] := k329
    simp only [List.mem_cons, List.not_mem_nil, or_false] at k329
    rcases k329 with k329 | k329
    · refine g_callU (As := [vR [51] _, vI _]) (T := [2, 3]) (st := []) "java/util/HashMap" 172 rfl C dJ1_putVal_169 q447 q450 dcl_7df631 q449 q448 q11 q452 okn_fdc8e3 (by decide) (by decide) (Nat.le_of_ble_eq_true rfl) e328 (fun _ => kC rfl k329) rfl (ct_J1_treeifyBin C.glob w) (fun r0 h331 p332 x333 _ => ?_)
      obtain ⟨rfl, w⟩ := p332
      have w := w x333
      change Gd _ _ _ _ []
      refine g_sub [some none, none, none, some none, some none, some none, none, none, none, none, some none, none, none] [] rfl rfl ?_
      exact wk_J1_putVal_b172 C Rr N _ _ _ _ _ _ w
    · refine g_callU (As := [vR [51] _, vI _]) (T := [2, 3]) (st := []) "java/util/LinkedHashMap" 172 rfl C dJ1_putVal_169 q447 q450 dcl_7df631 q451 q448 q11 q452 okn_fdc8e3 (by decide) (by decide) (Nat.le_of_ble_eq_true rfl) e328 (fun _ => kC rfl k329) rfl (ct_J1_treeifyBin C.glob w) (fun r0 h331 p332 x333 _ => ?_)
      obtain ⟨rfl, w⟩ := p332
      have w := w x333
      change Gd _ _ _ _ []
      refine g_sub [some none, none, none, some none, some none, some none, none, none, none, none, some none, none, none] [] rfl rfl ?_
      exact wk_J1_putVal_b172 C Rr N _ _ _ _ _ _ w
def wp_J1_putVal_b212 (G134 : Hp → Option Nat → Int32 → Option Nat → Option Nat → Int32 → Int32 → Option Nat → Option Nat → Int32 → Prop) (K : Option Nat → Hp → Prop) (h : Hp) (l0 : Option Nat) (l1 : Int32) (l2 : Option Nat) (l3 : Option Nat) (l4 : Int32) (l5 : Int32) (l6 : Option Nat) (l10 : Option Nat) (l12 : Int32) : Prop :=
  (G134 h l0 l1 l2 l3 l4 l5 l6 l10 (l12 + 1))
set_option maxHeartbeats 4000000 in
theorem wk_J1_putVal_b212 {X : Fx} {K : Option Nat → Hp → Prop} (C : Cx X cJ1_putVal yJ1_putVal.cls 13 9) (Rr : Rx X (Option.some (Jvm.ClassFile.FieldType.object "java/lang/Object")) (pR [4, 60] K)) (N : Nm X yJ1_putVal.name) {G134 : Hp → Option Nat → Int32 → Option Nat → Option Nat → Int32 → Int32 → Option Nat → Option Nat → Int32 → Prop} (k134 : ∀ (h : Hp) (l0 : Option Nat) (l1 : Int32) (l2 : Option Nat) (l3 : Option Nat) (l4 : Int32) (l5 : Int32) (l6 : Option Nat) (l7 : Option Nat) (l12 : Int32), G134 h l0 l1 l2 l3 l4 l5 l6 l7 l12 → Gd X h 134 [some (vR [2, 3] l0), some (vI l1), some (vR [4, 60] l2), some (vR [4, 60] l3), some (vI l4), some (vI l5), some (vR [51] l6), some (vR [5, 6, 7] l7), none, none, none, none, some (vI l12)] []) (h : Hp) (l0 : Option Nat) (l1 : Int32) (l2 : Option Nat) (l3 : Option Nat) (l4 : Int32) (l5 : Int32) (l6 : Option Nat) (l10 : Option Nat) (l12 : Int32) (w : wp_J1_putVal_b212 G134 K h l0 l1 l2 l3 l4 l5 l6 l10 l12) : Gd X h 212 [some (vR [2, 3] l0), some (vI l1), some (vR [4, 60] l2), some (vR [4, 60] l3), some (vI l4), some (vI l5), some (vR [51] l6), none, none, none, some (vR [5, 6, 7] l10), none, some (vI l12)] [] := by
  unfold wp_J1_putVal_b212 at w
  refine g_aload 214 rfl C dJ1_putVal_212 rfl ?_
  refine g_astore 216 rfl C dJ1_putVal_214 (by decide) (rfl : _ = [some (vR [2, 3] _), some (vI _), some (vR [4, 60] _), some (vR [4, 60] _), some (vI _), some (vI _), some (vR [51] _), some (vR [5, 6, 7] _), none, none, some (vR [5, 6, 7] _), none, some (vI _)]) ?_
  refine g_iinc 219 rfl C dJ1_putVal_216 rfl _ rfl (by decide) (rfl : _ = [some (vR [2, 3] _), some (vI _), some (vR [4, 60] _), some (vR [4, 60] _), some (vI _), some (vI _), some (vR [51] _), some (vR [5, 6, 7] _), none, none, some (vR [5, 6, 7] _), none, some (vI _)]) ?_
  refine g_goto 134 C dJ1_putVal_219 rfl ?_
  refine g_sub [some none, some none, some none, some none, some none, some none, some none, some none, none, none, none, none, some none] [] rfl rfl ?_
  exact k134 _ _ _ _ _ _ _ _ _ _ w
def wp_J1_putVal_b134 (K : Option Nat → Hp → Prop) : Nat → Hp → Option Nat → Int32 → Option Nat → Option Nat → Int32 → Int32 → Option Nat → Option Nat → Int32 → Prop
  | 0 => fun _ _ _ _ _ _ _ _ _ _ => False
  | m9 + 1 => fun h l0 l1 l2 l3 l4 l5 l6 l7 l12 =>
    (∃ a285, l7 = some a285 ∧ (((rf h 3 a285) = none → ((∃ a289, l0 = some a289 ∧ (kd h a289 = 2 ∧ (wp_J1_newNode h l0 l1 l2 l3 none (fun r292 h293 => Ex h h293 → (wp_J1_putVal_b155 K h293 l0 l1 l3 l4 l5 l6 (rf h 3 a285) l12 r292 l7))))) ∨ (∃ a296, l0 = some a296 ∧ (kd h a296 = 3 ∧ (wp_J2_newNode h l0 l1 l2 l3 none (fun r299 h300 => Ex h h300 → (wp_J1_putVal_b155 K h300 l0 l1 l3 l4 l5 l6 (rf h 3 a285) l12 r299 l7))))))) ∧ (∀ a288, (rf h 3 a285) = some a288 → ((¬ (it h 0 a288) = l1 → (wp_J1_putVal_b212 (wp_J1_putVal_b134 K m9) K h l0 l1 l2 l3 l4 l5 l6 (rf h 3 a285) l12)) ∧ ((it h 0 a288) = l1 → (((rf h 1 a288) = l2 → (wp_J1_putVal_b222 K h l0 l3 l4 l5 (rf h 3 a285))) ∧ (¬ (rf h 1 a288) = l2 → ((l2 = none → (wp_J1_putVal_b212 (wp_J1_putVal_b134 K m9) K h l0 l1 l2 l3 l4 l5 l6 (rf h 3 a285) l12)) ∧ (∀ a306, l2 = some a306 → (wp_J5_equals h l2 (rf h 1 a288) (fun r308 h309 => Ex h h309 → ((r308 = 0 → (wp_J1_putVal_b212 (wp_J1_putVal_b134 K m9) K h309 l0 l1 l2 l3 l4 l5 l6 (rf h 3 a285) l12)) ∧ (¬ r308 = 0 → (wp_J1_putVal_b222 K h309 l0 l3 l4 l5 (rf h 3 a285)))))))))))))))
set_option maxHeartbeats 4000000 in
theorem wk_J1_putVal_b134 {X : Fx} {K : Option Nat → Hp → Prop} (C : Cx X cJ1_putVal yJ1_putVal.cls 13 9) (Rr : Rx X (Option.some (Jvm.ClassFile.FieldType.object "java/lang/Object")) (pR [4, 60] K)) (N : Nm X yJ1_putVal.name) : ∀ (n : Nat) (h : Hp) (l0 : Option Nat) (l1 : Int32) (l2 : Option Nat) (l3 : Option Nat) (l4 : Int32) (l5 : Int32) (l6 : Option Nat) (l7 : Option Nat) (l12 : Int32), wp_J1_putVal_b134 K n h l0 l1 l2 l3 l4 l5 l6 l7 l12 → Gd X h 134 [some (vR [2, 3] l0), some (vI l1), some (vR [4, 60] l2), some (vR [4, 60] l3), some (vI l4), some (vI l5), some (vR [51] l6), some (vR [5, 6, 7] l7), none, none, none, none, some (vI l12)] [] := by
  intro n
  induction n with
  | zero => intro h l0 l1 l2 l3 l4 l5 l6 l7 l12 w; exact w.elim
  | succ n ih =>
    intro h l0 l1 l2 l3 l4 l5 l6 l7 l12 w
    unfold wp_J1_putVal_b134 at w
    refine g_aload 136 rfl C dJ1_putVal_134 rfl ?_
    obtain ⟨a285, e286, w⟩ := w
    refine g_getR 139 rfl C dJ1_putVal_136 fl_HashMap_177 rfl e286 rfl ?_
    refine g_dup 140 rfl C dJ1_putVal_139 rfl ?_
    refine g_astore 142 rfl C dJ1_putVal_140 (by decide) (rfl : _ = [some (vR [2, 3] _), some (vI _), some (vR [4, 60] _), some (vR [4, 60] _), some (vI _), some (vI _), some (vR [51] _), some (vR [5, 6, 7] _), none, none, some (vR [5, 6, 7] _), none, some (vI _)]) ?_
    refine g_ifnonnull 145 175 rfl C dJ1_putVal_142 rfl (fun a288 u287 => ?_) (fun u287 => ?_)
    · have w := w.2 a288 u287
      refine g_aload 177 rfl C dJ1_putVal_175 rfl ?_
      refine g_getI 180 rfl C dJ1_putVal_177 fl_HashMap_168 rfl u287 rfl ?_
      refine g_iload_n 181 rfl C dJ1_putVal_180 rfl ?_
      refine g_icmp_ne 184 212 rfl C dJ1_putVal_181 rfl (fun u303 => ?_) (fun u303 => ?_)
      · have w := w.1 u303
        refine g_sub [some none, some none, some none, some none, some none, some none, some none, none, none, none, some none, none, some none] [] rfl rfl ?_
        exact wk_J1_putVal_b212 C Rr N ih _ _ _ _ _ _ _ _ _ _ w
      · have w := w.2 u303
        refine g_aload 186 rfl C dJ1_putVal_184 rfl ?_
        refine g_getR 189 rfl C dJ1_putVal_186 fl_HashMap_170 rfl u287 rfl ?_
        refine g_dup 190 rfl C dJ1_putVal_189 rfl ?_
        refine g_astore 192 rfl C dJ1_putVal_190 (by decide) (rfl : _ = [some (vR [2, 3] _), some (vI _), some (vR [4, 60] _), some (vR [4, 60] _), some (vI _), some (vI _), some (vR [51] _), some (vR [5, 6, 7] _), none, none, some (vR [5, 6, 7] _), some (vR [4, 60] _), some (vI _)]) ?_
        refine g_aload_n 193 rfl C dJ1_putVal_192 rfl ?_
        refine g_acmp_eq 196 222 rfl C dJ1_putVal_193 rfl (fun u304 => ?_) (fun u304 => ?_)
        · have w := w.1 u304
          refine g_sub [some none, none, none, some none, some none, some none, none, none, none, none, some none, none, none] [] rfl rfl ?_
          exact wk_J1_putVal_b222 C Rr N _ _ _ _ _ _ w
        · have w := w.2 u304
          refine g_aload_n 197 rfl C dJ1_putVal_196 rfl ?_
          refine g_ifnull 200 212 rfl C dJ1_putVal_197 rfl (fun u305 => ?_) (fun a306 u305 => ?_)
          · have w := w.1 u305
            refine g_sub [some none, some none, some none, some none, some none, some none, some none, none, none, none, some none, none, some none] [] rfl rfl ?_
            exact wk_J1_putVal_b212 C Rr N ih _ _ _ _ _ _ _ _ _ _ w
          · have w := w.2 a306 u305
            refine g_aload_n 201 rfl C dJ1_putVal_200 rfl ?_
            refine g_aload 203 rfl C dJ1_putVal_201 rfl ?_
            refine g_callU (As := [vR [4, 60] _]) (T := [4, 60]) (st := []) "java/lang/Integer" 206 rfl C dJ1_putVal_203 q382 q384 dcl_e59518 q388 q389 q15 q390 okn_ad8bbc (by decide) (by decide) (Nat.le_of_ble_eq_true rfl) u305 (fun q => tC rfl q) rfl (ct_J5_equals C.glob w) (fun r0 h309 p310 x311 _ => ?_)
            obtain ⟨r308, rfl, w⟩ := p310
            have w := w x311
            change Gd _ _ _ _ (vI r308 :: [])
            refine g_if_eq 209 212 rfl C dJ1_putVal_206 rfl (fun u312 => ?_) (fun u312 => ?_)
            · have w := w.1 u312
              refine g_sub [some none, some none, some none, some none, some none, some none, some none, none, none, none, some none, none, some none] [] rfl rfl ?_
              exact wk_J1_putVal_b212 C Rr N ih _ _ _ _ _ _ _ _ _ _ w
            · have w := w.2 u312
              refine g_goto 222 C dJ1_putVal_209 rfl ?_
              refine g_sub [some none, none, none, some none, some none, some none, none, none, none, none, some none, none, none] [] rfl rfl ?_
              exact wk_J1_putVal_b222 C Rr N _ _ _ _ _ _ w
    · have w := w.1 u287
      refine g_aload 147 rfl C dJ1_putVal_145 rfl ?_
      refine g_aload_n 148 rfl C dJ1_putVal_147 rfl ?_
      refine g_iload_n 149 rfl C dJ1_putVal_148 rfl ?_
      refine g_aload_n 150 rfl C dJ1_putVal_149 rfl ?_
      refine g_aload_n 151 rfl C dJ1_putVal_150 rfl ?_
      refine g_null 152 rfl C dJ1_putVal_151 ?_
      rcases w with w | w
      · obtain ⟨a289, e290, w⟩ := w
        obtain ⟨k291, w⟩ := w
        refine g_sub [some none, some none, some none, some none, some none, some none, some none, some none, none, none, some none, none, some none] [some [5, 6, 7], none, none, none, none] rfl rfl ?_
        refine g_callU (As := [vI _, vR [4, 60] _, vR [4, 60] _, vR [5, 6, 7] _]) (T := [2, 3]) (st := [vR [5, 6, 7] _]) "java/util/HashMap" 155 rfl C dJ1_putVal_152 q369 q372 dcl_7c78cc q371 q370 q11 q380 okn_312c54 (by decide) (by decide) (Nat.le_of_ble_eq_true rfl) e290 (fun _ => kC rfl k291) rfl (ct_J1_newNode C.glob w) (fun r0 h293 p294 x295 _ => ?_)
        obtain ⟨r292, rfl, w⟩ := p294
        have w := w x295
        change Gd _ _ _ _ (vR [5, 6, 7] r292 :: [vR [5, 6, 7] _])
        refine g_sub [some none, some none, none, some none, some none, some none, some none, none, none, none, some none, none, some none] [none, none] rfl rfl ?_
        exact wk_J1_putVal_b155 C Rr N _ _ _ _ _ _ _ _ _ _ _ w
      · obtain ⟨a296, e297, w⟩ := w
        obtain ⟨k298, w⟩ := w
        refine g_nar 4 [3] rfl e297 (by rw [k298]; decide) ?_
        refine g_sub [some none, some none, some none, some none, some none, some none, some none, some none, none, none, some none, none, some none] [some [5, 6, 7], none, none, none, none] rfl rfl ?_
        refine g_callU (As := [vI _, vR [4, 60] _, vR [4, 60] _, vR [5, 6, 7] _]) (T := [3]) (st := [vR [5, 6, 7] _]) "java/util/LinkedHashMap" 155 rfl C dJ1_putVal_152 q369 q372 dcl_7c78cc q373 q374 q12 q375 okn_312c54 (by decide) (by decide) (Nat.le_of_ble_eq_true rfl) e297 (fun _ => kC rfl k298) rfl (ct_J2_newNode C.glob w) (fun r0 h300 p301 x302 _ => ?_)
        obtain ⟨r299, rfl, w⟩ := p301
        have w := w x302
        change Gd _ _ _ _ (vR [5, 6, 7] r299 :: [vR [5, 6, 7] _])
        refine g_sub [some none, some none, none, some none, some none, some none, some none, none, none, none, some none, none, some none] [none, none] rfl rfl ?_
        exact wk_J1_putVal_b155 C Rr N _ _ _ _ _ _ _ _ _ _ _ w
def wp_J1_putVal_b104 (K : Option Nat → Hp → Prop) (h : Hp) (l0 : Option Nat) (l1 : Int32) (l2 : Option Nat) (l3 : Option Nat) (l4 : Int32) (l5 : Int32) (l6 : Option Nat) (l7 : Option Nat) : Prop :=
  ((∀ a384, l7 = some a384 → kd h a384 ∈ [7] → ((∀ a, l7 = some a → kd h a ∈ [7]) ∧ (wp_J8_putTreeVal h l7 l0 l6 l1 l2 l3 (fun r389 h390 => Ex h h390 → (wp_J1_putVal_b222 K h390 l0 l3 l4 l5 r389))))) ∧ (∀ a384, l7 = some a384 → kd h a384 ∈ [5, 6] → (∃ n, wp_J1_putVal_b134 K n h l0 l1 l2 l3 l4 l5 l6 l7 0)) ∧ (l7 = none → (∃ n, wp_J1_putVal_b134 K n h l0 l1 l2 l3 l4 l5 l6 l7 0)))
set_option maxHeartbeats 4000000 in
theorem wk_J1_putVal_b104 {X : Fx} {K : Option Nat → Hp → Prop} (C : Cx X cJ1_putVal yJ1_putVal.cls 13 9) (Rr : Rx X (Option.some (Jvm.ClassFile.FieldType.object "java/lang/Object")) (pR [4, 60] K)) (N : Nm X yJ1_putVal.name) (h : Hp) (l0 : Option Nat) (l1 : Int32) (l2 : Option Nat) (l3 : Option Nat) (l4 : Int32) (l5 : Int32) (l6 : Option Nat) (l7 : Option Nat) (w : wp_J1_putVal_b104 K h l0 l1 l2 l3 l4 l5 l6 l7) : Gd X h 104 [some (vR [2, 3] l0), some (vI l1), some (vR [4, 60] l2), some (vR [4, 60] l3), some (vI l4), some (vI l5), some (vR [51] l6), some (vR [5, 6, 7] l7), none, none, none, none, none] [] := by
  unfold wp_J1_putVal_b104 at w
  refine g_aload 106 rfl C dJ1_putVal_104 rfl ?_
  refine g_inst [7] [5, 6] 109 rfl C dJ1_putVal_106 q222 co_HashMap_TreeNode_7 cno_HashMap_TreeNode_5_6 rfl (fun a384 u385 k386 => ?_) (fun a384 u385 k386 => ?_) (fun u385 => ?_)
  · have w := w.1 a384 u385 k386
    refine g_if_eq 112 131 rfl C dJ1_putVal_109 rfl (fun q => absurd q (by decide)) (fun _ => ?_)
    refine g_aload 114 rfl C dJ1_putVal_112 rfl ?_
    obtain ⟨k387, w⟩ := w
    refine g_cast [7] 117 rfl C dJ1_putVal_114 q222 co_HashMap_TreeNode_7 (fun a q _ => k387 a q) ?_
    refine g_aload_n 118 rfl C dJ1_putVal_117 rfl ?_
    refine g_aload 120 rfl C dJ1_putVal_118 rfl ?_
    refine g_iload_n 121 rfl C dJ1_putVal_120 rfl ?_
    refine g_aload_n 122 rfl C dJ1_putVal_121 rfl ?_
    refine g_aload_n 123 rfl C dJ1_putVal_122 rfl ?_
    refine g_callV (As := [vR [2, 3] _, vR [51] _, vI _, vR [4, 60] _, vR [4, 60] _]) (T := [7]) (st := []) "java/util/HashMap$TreeNode" 126 rfl C dJ1_putVal_123 q396 q397 q398 q21 q399 rfl okn_e5d47e (by decide) (by decide) (Nat.le_of_ble_eq_true rfl) u385 (fun q => tC rfl q) rfl (ct_J8_putTreeVal C.glob w) (fun r0 h390 p391 x392 _ => ?_)
    obtain ⟨r389, rfl, w⟩ := p391
    have w := w x392
    change Gd _ _ _ _ (vR [7] r389 :: [])
    refine g_astore 128 rfl C dJ1_putVal_126 (by decide) (rfl : _ = [some (vR [2, 3] _), some (vI _), some (vR [4, 60] _), some (vR [4, 60] _), some (vI _), some (vI _), some (vR [51] _), some (vR [5, 6, 7] _), none, none, some (vR [7] _), none, none]) ?_
    refine g_goto 222 C dJ1_putVal_128 rfl ?_
    refine g_sub [some none, none, none, some none, some none, some none, none, none, none, none, some (some [5, 6, 7]), none, none] [] rfl rfl ?_
    exact wk_J1_putVal_b222 C Rr N _ _ _ _ _ _ w
  · have w := w.2.1 a384 u385 k386
    refine g_if_eq 112 131 rfl C dJ1_putVal_109 rfl (fun _ => ?_) (fun q => absurd q (by decide))
    refine g_iconst 132 rfl C dJ1_putVal_131 0 rfl ?_
    refine g_istore 134 rfl C dJ1_putVal_132 (by decide) (rfl : _ = [some (vR [2, 3] _), some (vI _), some (vR [4, 60] _), some (vR [4, 60] _), some (vI _), some (vI _), some (vR [51] _), some (vR [5, 6, 7] _), none, none, none, none, some (vI _)]) ?_
    refine g_sub [some none, some none, some none, some none, some none, some none, some none, some none, none, none, none, none, some none] [] rfl rfl ?_
    obtain ⟨n9, w⟩ := w
    exact wk_J1_putVal_b134 C Rr N n9 _ _ _ _ _ _ _ _ _ _ w
  · have w := w.2.2 u385
    refine g_if_eq 112 131 rfl C dJ1_putVal_109 rfl (fun _ => ?_) (fun q => absurd q (by decide))
    refine g_iconst 132 rfl C dJ1_putVal_131 0 rfl ?_
    refine g_istore 134 rfl C dJ1_putVal_132 (by decide) (rfl : _ = [some (vR [2, 3] _), some (vI _), some (vR [4, 60] _), some (vR [4, 60] _), some (vI _), some (vI _), some (vR [51] _), some (vR [5, 6, 7] _), none, none, none, none, some (vI _)]) ?_
    refine g_sub [some none, some none, some none, some none, some none, some none, some none, some none, none, none, none, none, some none] [] rfl rfl ?_
    obtain ⟨n9, w⟩ := w
    exact wk_J1_putVal_b134 C Rr N n9 _ _ _ _ _ _ _ _ _ _ w
def wp_J1_putVal_b29 (K : Option Nat → Hp → Prop) (h : Hp) (l0 : Option Nat) (l1 : Int32) (l2 : Option Nat) (l3 : Option Nat) (l4 : Int32) (l5 : Int32) (l6 : Option Nat) (l8 : Int32) : Prop :=
  (∃ a334, l6 = some a334 ∧ (∃ j336, ((l8 - 1) &&& l1) = nI j336 ∧ j336 < ln h a334 ∧ (((rf h (100 + j336) a334) = none → ((∃ a341, l0 = some a341 ∧ (kd h a341 = 2 ∧ (wp_J1_newNode h l0 l1 l2 l3 none (fun r344 h345 => Ex h h345 → (wp_J1_putVal_b59 K h345 l0 l5 r344 ((l8 - 1) &&& l1) l6))))) ∨ (∃ a348, l0 = some a348 ∧ (kd h a348 = 3 ∧ (wp_J2_newNode h l0 l1 l2 l3 none (fun r351 h352 => Ex h h352 → (wp_J1_putVal_b59 K h352 l0 l5 r351 ((l8 - 1) &&& l1) l6))))))) ∧ (∀ a340, (rf h (100 + j336) a334) = some a340 → ((¬ (it h 0 a340) = l1 → (wp_J1_putVal_b104 K h l0 l1 l2 l3 l4 l5 l6 (rf h (100 + j336) a334))) ∧ ((it h 0 a340) = l1 → (((rf h 1 a340) = l2 → (wp_J1_putVal_b97 K h l0 l3 l4 l5 (rf h (100 + j336) a334))) ∧ (¬ (rf h 1 a340) = l2 → ((l2 = none → (wp_J1_putVal_b104 K h l0 l1 l2 l3 l4 l5 l6 (rf h (100 + j336) a334))) ∧ (∀ a358, l2 = some a358 → (wp_J5_equals h l2 (rf h 1 a340) (fun r360 h361 => Ex h h361 → ((r360 = 0 → (wp_J1_putVal_b104 K h361 l0 l1 l2 l3 l4 l5 l6 (rf h (100 + j336) a334))) ∧ (¬ r360 = 0 → (wp_J1_putVal_b97 K h361 l0 l3 l4 l5 (rf h (100 + j336) a334))))))))))))))))
set_option maxHeartbeats 4000000 in
theorem wk_J1_putVal_b29 {X : Fx} {K : Option Nat → Hp → Prop} (C : Cx X cJ1_putVal yJ1_putVal.cls 13 9) (Rr : Rx X (Option.some (Jvm.ClassFile.FieldType.object "java/lang/Object")) (pR [4, 60] K)) (N : Nm X yJ1_putVal.name) (h : Hp) (l0 : Option Nat) (l1 : Int32) (l2 : Option Nat) (l3 : Option Nat) (l4 : Int32) (l5 : Int32) (l6 : Option Nat) (l8 : Int32) (w : wp_J1_putVal_b29 K h l0 l1 l2 l3 l4 l5 l6 l8) : Gd X h 29 [some (vR [2, 3] l0), some (vI l1), some (vR [4, 60] l2), some (vR [4, 60] l3), some (vI l4), some (vI l5), some (vR [51] l6), none, some (vI l8), none, none, none, none] [] := by
  unfold wp_J1_putVal_b29 at w
  refine g_aload 31 rfl C dJ1_putVal_29 rfl ?_
  refine g_iload 33 rfl C dJ1_putVal_31 rfl ?_
  refine g_iconst 34 rfl C dJ1_putVal_33 1 rfl ?_
  refine g_isub 35 rfl C dJ1_putVal_34 ?_
  refine g_iload_n 36 rfl C dJ1_putVal_35 rfl ?_
  refine g_iand 37 rfl C dJ1_putVal_36 ?_
  refine g_dup 38 rfl C dJ1_putVal_37 rfl ?_
  refine g_istore 40 rfl C dJ1_putVal_38 (by decide) (rfl : _ = [some (vR [2, 3] _), some (vI _), some (vR [4, 60] _), some (vR [4, 60] _), some (vI _), some (vI _), some (vR [51] _), none, some (vI _), some (vI _), none, none, none]) ?_
  obtain ⟨a334, e335, w⟩ := w
  obtain ⟨j336, e337, e338, w⟩ := w
  refine g_aaload 51 41 rfl C dJ1_putVal_40 (by decide) e335 e337 e338 ?_
  refine g_dup 42 rfl C dJ1_putVal_41 rfl ?_
  refine g_astore 44 rfl C dJ1_putVal_42 (by decide) (rfl : _ = [some (vR [2, 3] _), some (vI _), some (vR [4, 60] _), some (vR [4, 60] _), some (vI _), some (vI _), some (vR [51] _), some (vR [5, 6, 7] _), some (vI _), some (vI _), none, none, none]) ?_
  refine g_ifnonnull 47 63 rfl C dJ1_putVal_44 rfl (fun a340 u339 => ?_) (fun u339 => ?_)
  · have w := w.2 a340 u339
    refine g_aload 65 rfl C dJ1_putVal_63 rfl ?_
    refine g_getI 68 rfl C dJ1_putVal_65 fl_HashMap_168 rfl u339 rfl ?_
    refine g_iload_n 69 rfl C dJ1_putVal_68 rfl ?_
    refine g_icmp_ne 72 104 rfl C dJ1_putVal_69 rfl (fun u355 => ?_) (fun u355 => ?_)
    · have w := w.1 u355
      refine g_sub [some none, some none, some none, some none, some none, some none, some none, some none, none, none, none, none, none] [] rfl rfl ?_
      exact wk_J1_putVal_b104 C Rr N _ _ _ _ _ _ _ _ _ w
    · have w := w.2 u355
      refine g_aload 74 rfl C dJ1_putVal_72 rfl ?_
      refine g_getR 77 rfl C dJ1_putVal_74 fl_HashMap_170 rfl u339 rfl ?_
      refine g_dup 78 rfl C dJ1_putVal_77 rfl ?_
      refine g_astore 80 rfl C dJ1_putVal_78 (by decide) (rfl : _ = [some (vR [2, 3] _), some (vI _), some (vR [4, 60] _), some (vR [4, 60] _), some (vI _), some (vI _), some (vR [51] _), some (vR [5, 6, 7] _), some (vI _), some (vI _), none, some (vR [4, 60] _), none]) ?_
      refine g_aload_n 81 rfl C dJ1_putVal_80 rfl ?_
      refine g_acmp_eq 84 97 rfl C dJ1_putVal_81 rfl (fun u356 => ?_) (fun u356 => ?_)
      · have w := w.1 u356
        refine g_sub [some none, none, none, some none, some none, some none, none, some none, none, none, none, none, none] [] rfl rfl ?_
        exact wk_J1_putVal_b97 C Rr N _ _ _ _ _ _ w
      · have w := w.2 u356
        refine g_aload_n 85 rfl C dJ1_putVal_84 rfl ?_
        refine g_ifnull 88 104 rfl C dJ1_putVal_85 rfl (fun u357 => ?_) (fun a358 u357 => ?_)
        · have w := w.1 u357
          refine g_sub [some none, some none, some none, some none, some none, some none, some none, some none, none, none, none, none, none] [] rfl rfl ?_
          exact wk_J1_putVal_b104 C Rr N _ _ _ _ _ _ _ _ _ w
        · have w := w.2 a358 u357
          refine g_aload_n 89 rfl C dJ1_putVal_88 rfl ?_
          refine g_aload 91 rfl C dJ1_putVal_89 rfl ?_
          refine g_callU (As := [vR [4, 60] _]) (T := [4, 60]) (st := []) "java/lang/Integer" 94 rfl C dJ1_putVal_91 q382 q384 dcl_e59518 q388 q389 q15 q390 okn_ad8bbc (by decide) (by decide) (Nat.le_of_ble_eq_true rfl) u357 (fun q => tC rfl q) rfl (ct_J5_equals C.glob w) (fun r0 h361 p362 x363 _ => ?_)
          obtain ⟨r360, rfl, w⟩ := p362
          have w := w x363
          change Gd _ _ _ _ (vI r360 :: [])
          refine g_if_eq 97 104 rfl C dJ1_putVal_94 rfl (fun u364 => ?_) (fun u364 => ?_)
          · have w := w.1 u364
            refine g_sub [some none, some none, some none, some none, some none, some none, some none, some none, none, none, none, none, none] [] rfl rfl ?_
            exact wk_J1_putVal_b104 C Rr N _ _ _ _ _ _ _ _ _ w
          · have w := w.2 u364
            refine g_sub [some none, none, none, some none, some none, some none, none, some none, none, none, none, none, none] [] rfl rfl ?_
            exact wk_J1_putVal_b97 C Rr N _ _ _ _ _ _ w
  · have w := w.1 u339
    refine g_aload 49 rfl C dJ1_putVal_47 rfl ?_
    refine g_iload 51 rfl C dJ1_putVal_49 rfl ?_
    refine g_aload_n 52 rfl C dJ1_putVal_51 rfl ?_
    refine g_iload_n 53 rfl C dJ1_putVal_52 rfl ?_
    refine g_aload_n 54 rfl C dJ1_putVal_53 rfl ?_
    refine g_aload_n 55 rfl C dJ1_putVal_54 rfl ?_
    refine g_null 56 rfl C dJ1_putVal_55 ?_
    rcases w with w | w
    · obtain ⟨a341, e342, w⟩ := w
      obtain ⟨k343, w⟩ := w
      refine g_sub [some none, some none, some none, some none, some none, some none, some none, some none, some none, some none, none, none, none] [some [5, 6, 7], none, none, none, none] rfl rfl ?_
      refine g_callU (As := [vI _, vR [4, 60] _, vR [4, 60] _, vR [5, 6, 7] _]) (T := [2, 3]) (st := [vI _, vR [51] _]) "java/util/HashMap" 59 rfl C dJ1_putVal_56 q369 q372 dcl_7c78cc q371 q370 q11 q380 okn_312c54 (by decide) (by decide) (Nat.le_of_ble_eq_true rfl) e342 (fun _ => kC rfl k343) rfl (ct_J1_newNode C.glob w) (fun r0 h345 p346 x347 _ => ?_)
      obtain ⟨r344, rfl, w⟩ := p346
      have w := w x347
      change Gd _ _ _ _ (vR [5, 6, 7] r344 :: [vI _, vR [51] _])
      refine g_sub [some none, none, none, none, none, some none, none, none, none, none, none, none, none] [none, none, none] rfl rfl ?_
      exact wk_J1_putVal_b59 C Rr N _ _ _ _ _ _ w
    · obtain ⟨a348, e349, w⟩ := w
      obtain ⟨k350, w⟩ := w
      refine g_nar 4 [3] rfl e349 (by rw [k350]; decide) ?_
      refine g_sub [some none, some none, some none, some none, some none, some none, some none, some none, some none, some none, none, none, none] [some [5, 6, 7], none, none, none, none] rfl rfl ?_
      refine g_callU (As := [vI _, vR [4, 60] _, vR [4, 60] _, vR [5, 6, 7] _]) (T := [3]) (st := [vI _, vR [51] _]) "java/util/LinkedHashMap" 59 rfl C dJ1_putVal_56 q369 q372 dcl_7c78cc q373 q374 q12 q375 okn_312c54 (by decide) (by decide) (Nat.le_of_ble_eq_true rfl) e349 (fun _ => kC rfl k350) rfl (ct_J2_newNode C.glob w) (fun r0 h352 p353 x354 _ => ?_)
      obtain ⟨r351, rfl, w⟩ := p353
      have w := w x354
      change Gd _ _ _ _ (vR [5, 6, 7] r351 :: [vI _, vR [51] _])
      refine g_sub [some none, none, none, none, none, some none, none, none, none, none, none, none, none] [none, none, none] rfl rfl ?_
      exact wk_J1_putVal_b59 C Rr N _ _ _ _ _ _ w
def wp_J1_putVal_b23 (K : Option Nat → Hp → Prop) (h : Hp) (l0 : Option Nat) (l1 : Int32) (l2 : Option Nat) (l3 : Option Nat) (l4 : Int32) (l5 : Int32) (s0 : Option Nat) : Prop :=
  (∃ a320, s0 = some a320 ∧ (ln h a320 < 2 ^ 26 → (wp_J1_putVal_b29 K h l0 l1 l2 l3 l4 l5 s0 (nI (ln h a320)))))
set_option maxHeartbeats 4000000 in
theorem wk_J1_putVal_b23 {X : Fx} {K : Option Nat → Hp → Prop} (C : Cx X cJ1_putVal yJ1_putVal.cls 13 9) (Rr : Rx X (Option.some (Jvm.ClassFile.FieldType.object "java/lang/Object")) (pR [4, 60] K)) (N : Nm X yJ1_putVal.name) (h : Hp) (l0 : Option Nat) (l1 : Int32) (l2 : Option Nat) (l3 : Option Nat) (l4 : Int32) (l5 : Int32) (s0 : Option Nat) (w : wp_J1_putVal_b23 K h l0 l1 l2 l3 l4 l5 s0) : Gd X h 23 [some (vR [2, 3] l0), some (vI l1), some (vR [4, 60] l2), some (vR [4, 60] l3), some (vI l4), some (vI l5), none, none, none, none, none, none, none] [vR [51] s0] := by
  unfold wp_J1_putVal_b23 at w
  refine g_dup 24 rfl C dJ1_putVal_23 rfl ?_
  refine g_astore 26 rfl C dJ1_putVal_24 (by decide) (rfl : _ = [some (vR [2, 3] _), some (vI _), some (vR [4, 60] _), some (vR [4, 60] _), some (vI _), some (vI _), some (vR [51] _), none, none, none, none, none, none]) ?_
  obtain ⟨a320, e321, w⟩ := w
  refine g_alen 27 rfl C dJ1_putVal_26 e321 rfl (fun u322 => ?_)
  have w := w u322
  refine g_istore 29 rfl C dJ1_putVal_27 (by decide) (rfl : _ = [some (vR [2, 3] _), some (vI _), some (vR [4, 60] _), some (vR [4, 60] _), some (vI _), some (vI _), some (vR [51] _), none, some (vI _), none, none, none, none]) ?_
  refine g_sub [some none, some none, some none, some none, some none, some none, some none, none, some none, none, none, none, none] [] rfl rfl ?_
  exact wk_J1_putVal_b29 C Rr N _ _ _ _ _ _ _ _ _ w
def wp_J1_putVal_b19 (K : Option Nat → Hp → Prop) (h : Hp) (l0 : Option Nat) (l1 : Int32) (l2 : Option Nat) (l3 : Option Nat) (l4 : Int32) (l5 : Int32) : Prop :=
  (∃ a313, l0 = some a313 ∧ (wp_J1_resize h l0 (fun r316 h317 => Ex h h317 → (wp_J1_putVal_b23 K h317 l0 l1 l2 l3 l4 l5 r316))))
set_option maxHeartbeats 4000000 in
theorem wk_J1_putVal_b19 {X : Fx} {K : Option Nat → Hp → Prop} (C : Cx X cJ1_putVal yJ1_putVal.cls 13 9) (Rr : Rx X (Option.some (Jvm.ClassFile.FieldType.object "java/lang/Object")) (pR [4, 60] K)) (N : Nm X yJ1_putVal.name) (h : Hp) (l0 : Option Nat) (l1 : Int32) (l2 : Option Nat) (l3 : Option Nat) (l4 : Int32) (l5 : Int32) (w : wp_J1_putVal_b19 K h l0 l1 l2 l3 l4 l5) : Gd X h 19 [some (vR [2, 3] l0), some (vI l1), some (vR [4, 60] l2), some (vR [4, 60] l3), some (vI l4), some (vI l5), none, none, none, none, none, none, none] [] := by
  unfold wp_J1_putVal_b19 at w
  refine g_aload_n 20 rfl C dJ1_putVal_19 rfl ?_
  obtain ⟨a313, e314, w⟩ := w
  refine g_known 0 rfl e314 (fun k315 => ?_)
  have k315 : kd _ _ ∈ [2, 3] := k315
  simp only [List.mem_cons, List.not_mem_nil, or_false] at k315
  rcases k315 with k315 | k315
  · refine g_callU (As := []) (T := [2, 3]) (st := []) "java/util/HashMap" 23 rfl C dJ1_putVal_20 q212 q215 dcl_c76c33 q214 q213 q11 q217 okn_4da807 (by decide) (by decide) (Nat.le_of_ble_eq_true rfl) e314 (fun _ => kC rfl k315) rfl (ct_J1_resize C.glob w) (fun r0 h317 p318 x319 _ => ?_)
    obtain ⟨r316, rfl, w⟩ := p318
    have w := w x319
    change Gd _ _ _ _ (vR [51] r316 :: [])
    refine g_sub [some none, some none, some none, some none, some none, some none, none, none, none, none, none, none, none] [none] rfl rfl ?_
    exact wk_J1_putVal_b23 C Rr N _ _ _ _ _ _ _ _ w
  · refine g_callU (As := []) (T := [2, 3]) (st := []) "java/util/LinkedHashMap" 23 rfl C dJ1_putVal_20 q212 q215 dcl_c76c33 q216 q213 q11 q217 okn_4da807 (by decide) (by decide) (Nat.le_of_ble_eq_true rfl) e314 (fun _ => kC rfl k315) rfl (ct_J1_resize C.glob w) (fun r0 h317 p318 x319 _ => ?_)
    obtain ⟨r316, rfl, w⟩ := p318
    have w := w x319
    change Gd _ _ _ _ (vR [51] r316 :: [])
    refine g_sub [some none, some none, some none, some none, some none, some none, none, none, none, none, none, none, none] [none] rfl rfl ?_
    exact wk_J1_putVal_b23 C Rr N _ _ _ _ _ _ _ _ w
def wp_J1_putVal (h : Hp) (x0 : Option Nat) (x1 : Int32) (x2 : Option Nat) (x3 : Option Nat) (x4 : Int32) (x5 : Int32) (K : Option Nat → Hp → Prop) : Prop :=
  (∃ a269, x0 = some a269 ∧ (((rf h 13 a269) = none → (wp_J1_putVal_b19 K h x0 x1 x2 x3 x4 x5)) ∧ (∀ a272, (rf h 13 a269) = some a272 → (ln h a272 < 2 ^ 26 → ((¬ (nI (ln h a272)) = 0 → (wp_J1_putVal_b29 K h x0 x1 x2 x3 x4 x5 (rf h 13 a269) (nI (ln h a272)))) ∧ ((nI (ln h a272)) = 0 → (wp_J1_putVal_b19 K h x0 x1 x2 x3 x4 x5)))))))
set_option maxHeartbeats 4000000 in
theorem wk_J1_putVal {X : Fx} {K : Option Nat → Hp → Prop} (C : Cx X cJ1_putVal yJ1_putVal.cls 13 9) (Rr : Rx X (Option.some (Jvm.ClassFile.FieldType.object "java/lang/Object")) (pR [4, 60] K)) (N : Nm X yJ1_putVal.name) (h : Hp) (x0 : Option Nat) (x1 : Int32) (x2 : Option Nat) (x3 : Option Nat) (x4 : Int32) (x5 : Int32) (w : wp_J1_putVal h x0 x1 x2 x3 x4 x5 K) : Gd X h 0 [some (vR [2, 3] x0), some (vI x1), some (vR [4, 60] x2), some (vR [4, 60] x3), some (vI x4), some (vI x5), none, none, none, none, none, none, none] [] := by
  unfold wp_J1_putVal at w
  refine g_aload_n 1 rfl C dJ1_putVal_0 rfl ?_
  obtain ⟨a269, e270, w⟩ := w
  refine g_getR 4 rfl C dJ1_putVal_1 fl_HashMap_105 rfl e270 rfl ?_
  refine g_dup 5 rfl C dJ1_putVal_4 rfl ?_
  refine g_astore 7 rfl C dJ1_putVal_5 (by decide) (rfl : _ = [some (vR [2, 3] _), some (vI _), some (vR [4, 60] _), some (vR [4, 60] _), some (vI _), some (vI _), some (vR [51] _), none, none, none, none, none, none]) ?_
  refine g_ifnull 10 19 rfl C dJ1_putVal_7 rfl (fun u271 => ?_) (fun a272 u271 => ?_)
  · have w := w.1 u271
    refine g_sub [some none, some none, some none, some none, some none, some none, none, none, none, none, none, none, none] [] rfl rfl ?_
    exact wk_J1_putVal_b19 C Rr N _ _ _ _ _ _ _ w
  · have w := w.2 a272 u271
    refine g_aload 12 rfl C dJ1_putVal_10 rfl ?_
    refine g_alen 13 rfl C dJ1_putVal_12 u271 rfl (fun u273 => ?_)
    have w := w u273
    refine g_dup 14 rfl C dJ1_putVal_13 rfl ?_
    refine g_istore 16 rfl C dJ1_putVal_14 (by decide) (rfl : _ = [some (vR [2, 3] _), some (vI _), some (vR [4, 60] _), some (vR [4, 60] _), some (vI _), some (vI _), some (vR [51] _), none, some (vI _), none, none, none, none]) ?_
    refine g_if_ne 19 29 rfl C dJ1_putVal_16 rfl (fun u274 => ?_) (fun u274 => ?_)
    · have w := w.1 u274
      refine g_sub [some none, some none, some none, some none, some none, some none, some none, none, some none, none, none, none, none] [] rfl rfl ?_
      exact wk_J1_putVal_b29 C Rr N _ _ _ _ _ _ _ _ _ w
    · have w := w.2 u274
      refine g_sub [some none, some none, some none, some none, some none, some none, none, none, none, none, none, none, none] [] rfl rfl ?_
      exact wk_J1_putVal_b19 C Rr N _ _ _ _ _ _ _ w
theorem ct_J1_putVal {E : Gx} (GE : Glob E) {h : Hp} {x0 : Option Nat} {x1 : Int32} {x2 : Option Nat} {x3 : Option Nat} {x4 : Int32} {x5 : Int32} {K : Option Nat → Hp → Prop} (w : wp_J1_putVal h x0 x1 x2 x3 x4 x5 K) : Ct E yJ1_putVal cJ1_putVal 13 (Option.some (Jvm.ClassFile.FieldType.object "java/lang/Object")) 9 [vR [2, 3] x0, vI x1, vR [4, 60] x2, vR [4, 60] x3, vI x4, vI x5] h (pR [4, 60] K) :=
  Ct.of GE (by decide +kernel) (by simp [lvA, t2]) rfl (fun X hX C Rr N => wk_J1_putVal C Rr N h x0 x1 x2 x3 x4 x5 w)
def wp_J1_put_b12 (K : Option Nat → Hp → Prop) (h : Hp) (s0 : Option Nat) : Prop :=
  (K s0 h)
set_option maxHeartbeats 4000000 in
theorem wk_J1_put_b12 {X : Fx} {K : Option Nat → Hp → Prop} (C : Cx X cJ1_put yJ1_put.cls 3 10) (Rr : Rx X (Option.some (Jvm.ClassFile.FieldType.object "java/lang/Object")) (pR [4, 60] K)) (N : Nm X yJ1_put.name) (h : Hp) (s0 : Option Nat) (w : wp_J1_put_b12 K h s0) : Gd X h 12 [none, none, none] [vR [4, 60] s0] := by
  unfold wp_J1_put_b12 at w
  exact g_areturn [4, 60] C Rr rfl dJ1_put_12 rfl ⟨_, rfl, w⟩
def wp_J1_put (h : Hp) (x0 : Option Nat) (x1 : Option Nat) (x2 : Option Nat) (K : Option Nat → Hp → Prop) : Prop :=
  (wp_J1_hash h x1 (fun r14 h15 => Ex h h15 → (∃ a18, x0 = some a18 ∧ (wp_J1_putVal h15 x0 r14 x1 x2 0 1 (fun r21 h22 => Ex h15 h22 → (wp_J1_put_b12 K h22 r21))))))
set_option maxHeartbeats 4000000 in
theorem wk_J1_put {X : Fx} {K : Option Nat → Hp → Prop} (C : Cx X cJ1_put yJ1_put.cls 3 10) (Rr : Rx X (Option.some (Jvm.ClassFile.FieldType.object "java/lang/Object")) (pR [4, 60] K)) (N : Nm X yJ1_put.name) (h : Hp) (x0 : Option Nat) (x1 : Option Nat) (x2 : Option Nat) (w : wp_J1_put h x0 x1 x2 K) : Gd X h 0 [some (vR [2, 3] x0), some (vR [4, 60] x1), some (vR [4, 60] x2)] [] := by
  unfold wp_J1_put at w
  refine g_aload_n 1 rfl C dJ1_put_0 rfl ?_
  refine g_aload_n 2 rfl C dJ1_put_1 rfl ?_
  refine g_callS (As := [vR [4, 60] _]) (st := [vR [2, 3] _]) 5 rfl C dJ1_put_2 q189 q190 q11 q191 okn_b794a0 (by decide) (by decide) (Nat.le_of_ble_eq_true rfl) rfl (ct_J1_hash C.glob w) (fun r0 h15 p16 x17 _ => ?_)
  obtain ⟨r14, rfl, w⟩ := p16
  have w := w x17
  change Gd _ _ _ _ (vI r14 :: [vR [2, 3] _])
  refine g_aload_n 6 rfl C dJ1_put_5 rfl ?_
  refine g_aload_n 7 rfl C dJ1_put_6 rfl ?_
  refine g_iconst 8 rfl C dJ1_put_7 0 rfl ?_
  refine g_iconst 9 rfl C dJ1_put_8 1 rfl ?_
  obtain ⟨a18, e19, w⟩ := w
  refine g_known 5 rfl e19 (fun k20 => ?_)
  have k20 : kd _ _ ∈ [2, 3] := k20
  simp only [List.mem_cons, List.not_mem_nil, or_false] at k20
  rcases k20 with k20 | k20
  · refine g_callU (As := [vI _, vR [4, 60] _, vR [4, 60] _, vI _, vI _]) (T := [2, 3]) (st := []) "java/util/HashMap" 12 rfl C dJ1_put_9 q206 q209 dcl_3cfaa8 q208 q207 q11 q211 okn_5fdd77 (by decide) (by decide) (Nat.le_of_ble_eq_true rfl) e19 (fun _ => kC rfl k20) rfl (ct_J1_putVal C.glob w) (fun r0 h22 p23 x24 _ => ?_)
    obtain ⟨r21, rfl, w⟩ := p23
    have w := w x24
    change Gd _ _ _ _ (vR [4, 60] r21 :: [])
    refine g_sub [none, none, none] [none] rfl rfl ?_
    exact wk_J1_put_b12 C Rr N _ _ w
  · refine g_callU (As := [vI _, vR [4, 60] _, vR [4, 60] _, vI _, vI _]) (T := [2, 3]) (st := []) "java/util/LinkedHashMap" 12 rfl C dJ1_put_9 q206 q209 dcl_3cfaa8 q210 q207 q11 q211 okn_5fdd77 (by decide) (by decide) (Nat.le_of_ble_eq_true rfl) e19 (fun _ => kC rfl k20) rfl (ct_J1_putVal C.glob w) (fun r0 h22 p23 x24 _ => ?_)
    obtain ⟨r21, rfl, w⟩ := p23
    have w := w x24
    change Gd _ _ _ _ (vR [4, 60] r21 :: [])
    refine g_sub [none, none, none] [none] rfl rfl ?_
    exact wk_J1_put_b12 C Rr N _ _ w
theorem ct_J1_put {E : Gx} (GE : Glob E) {h : Hp} {x0 : Option Nat} {x1 : Option Nat} {x2 : Option Nat} {K : Option Nat → Hp → Prop} (w : wp_J1_put h x0 x1 x2 K) : Ct E yJ1_put cJ1_put 3 (Option.some (Jvm.ClassFile.FieldType.object "java/lang/Object")) 10 [vR [2, 3] x0, vR [4, 60] x1, vR [4, 60] x2] h (pR [4, 60] K) :=
  Ct.of GE (by decide +kernel) (by simp [lvA, t2]) rfl (fun X hX C Rr N => wk_J1_put C Rr N h x0 x1 x2 w)
def wp_J1_putIfAbsent_b12 (K : Option Nat → Hp → Prop) (h : Hp) (s0 : Option Nat) : Prop :=
  (K s0 h)
set_option maxHeartbeats 4000000 in
theorem wk_J1_putIfAbsent_b12 {X : Fx} {K : Option Nat → Hp → Prop} (C : Cx X cJ1_putIfAbsent yJ1_putIfAbsent.cls 3 10) (Rr : Rx X (Option.some (Jvm.ClassFile.FieldType.object "java/lang/Object")) (pR [4, 60] K)) (N : Nm X yJ1_putIfAbsent.name) (h : Hp) (s0 : Option Nat) (w : wp_J1_putIfAbsent_b12 K h s0) : Gd X h 12 [none, none, none] [vR [4, 60] s0] := by
  unfold wp_J1_putIfAbsent_b12 at w
  exact g_areturn [4, 60] C Rr rfl dJ1_putIfAbsent_12 rfl ⟨_, rfl, w⟩
def wp_J1_putIfAbsent (h : Hp) (x0 : Option Nat) (x1 : Option Nat) (x2 : Option Nat) (K : Option Nat → Hp → Prop) : Prop :=
  (wp_J1_hash h x1 (fun r14 h15 => Ex h h15 → (∃ a18, x0 = some a18 ∧ (wp_J1_putVal h15 x0 r14 x1 x2 1 1 (fun r21 h22 => Ex h15 h22 → (wp_J1_putIfAbsent_b12 K h22 r21))))))
set_option maxHeartbeats 4000000 in
theorem wk_J1_putIfAbsent {X : Fx} {K : Option Nat → Hp → Prop} (C : Cx X cJ1_putIfAbsent yJ1_putIfAbsent.cls 3 10) (Rr : Rx X (Option.some (Jvm.ClassFile.FieldType.object "java/lang/Object")) (pR [4, 60] K)) (N : Nm X yJ1_putIfAbsent.name) (h : Hp) (x0 : Option Nat) (x1 : Option Nat) (x2 : Option Nat) (w : wp_J1_putIfAbsent h x0 x1 x2 K) : Gd X h 0 [some (vR [2, 3] x0), some (vR [4, 60] x1), some (vR [4, 60] x2)] [] := by
  unfold wp_J1_putIfAbsent at w
  refine g_aload_n 1 rfl C dJ1_putIfAbsent_0 rfl ?_
  refine g_aload_n 2 rfl C dJ1_putIfAbsent_1 rfl ?_
  refine g_callS (As := [vR [4, 60] _]) (st := [vR [2, 3] _]) 5 rfl C dJ1_putIfAbsent_2 q189 q190 q11 q191 okn_b794a0 (by decide) (by decide) (Nat.le_of_ble_eq_true rfl) rfl (ct_J1_hash C.glob w) (fun r0 h15 p16 x17 _ => ?_)
  obtain ⟨r14, rfl, w⟩ := p16
  have w := w x17
  change Gd _ _ _ _ (vI r14 :: [vR [2, 3] _])
  refine g_aload_n 6 rfl C dJ1_putIfAbsent_5 rfl ?_
  refine g_aload_n 7 rfl C dJ1_putIfAbsent_6 rfl ?_
  refine g_iconst 8 rfl C dJ1_putIfAbsent_7 1 rfl ?_
  refine g_iconst 9 rfl C dJ1_putIfAbsent_8 1 rfl ?_
  obtain ⟨a18, e19, w⟩ := w
  refine g_known 5 rfl e19 (fun k20 => ?_)
  have k20 : kd _ _ ∈ [2, 3] := k20
  simp only [List.mem_cons, List.not_mem_nil, or_false] at k20
  rcases k20 with k20 | k20
  · refine g_callU (As := [vI _, vR [4, 60] _, vR [4, 60] _, vI _, vI _]) (T := [2, 3]) (st := []) "java/util/HashMap" 12 rfl C dJ1_putIfAbsent_9 q206 q209 dcl_3cfaa8 q208 q207 q11 q211 okn_5fdd77 (by decide) (by decide) (Nat.le_of_ble_eq_true rfl) e19 (fun _ => kC rfl k20) rfl (ct_J1_putVal C.glob w) (fun r0 h22 p23 x24 _ => ?_)
    obtain ⟨r21, rfl, w⟩ := p23
    have w := w x24
    change Gd _ _ _ _ (vR [4, 60] r21 :: [])
    refine g_sub [none, none, none] [none] rfl rfl ?_
    exact wk_J1_putIfAbsent_b12 C Rr N _ _ w
  · refine g_callU (As := [vI _, vR [4, 60] _, vR [4, 60] _, vI _, vI _]) (T := [2, 3]) (st := []) "java/util/LinkedHashMap" 12 rfl C dJ1_putIfAbsent_9 q206 q209 dcl_3cfaa8 q210 q207 q11 q211 okn_5fdd77 (by decide) (by decide) (Nat.le_of_ble_eq_true rfl) e19 (fun _ => kC rfl k20) rfl (ct_J1_putVal C.glob w) (fun r0 h22 p23 x24 _ => ?_)
    obtain ⟨r21, rfl, w⟩ := p23
    have w := w x24
    change Gd _ _ _ _ (vR [4, 60] r21 :: [])
    refine g_sub [none, none, none] [none] rfl rfl ?_
    exact wk_J1_putIfAbsent_b12 C Rr N _ _ w
theorem ct_J1_putIfAbsent {E : Gx} (GE : Glob E) {h : Hp} {x0 : Option Nat} {x1 : Option Nat} {x2 : Option Nat} {K : Option Nat → Hp → Prop} (w : wp_J1_putIfAbsent h x0 x1 x2 K) : Ct E yJ1_putIfAbsent cJ1_putIfAbsent 3 (Option.some (Jvm.ClassFile.FieldType.object "java/lang/Object")) 10 [vR [2, 3] x0, vR [4, 60] x1, vR [4, 60] x2] h (pR [4, 60] K) :=
  Ct.of GE (by decide +kernel) (by simp [lvA, t2]) rfl (fun X hX C Rr N => wk_J1_putIfAbsent C Rr N h x0 x1 x2 w)
def wp_J1_getOrDefault_b18 (K : Option Nat → Hp → Prop) (h : Hp) (s0 : Option Nat) : Prop :=
  (K s0 h)
set_option maxHeartbeats 4000000 in
theorem wk_J1_getOrDefault_b18 {X : Fx} {K : Option Nat → Hp → Prop} (C : Cx X cJ1_getOrDefault yJ1_getOrDefault.cls 4 7) (Rr : Rx X (Option.some (Jvm.ClassFile.FieldType.object "java/lang/Object")) (pR [4, 60] K)) (N : Nm X yJ1_getOrDefault.name) (h : Hp) (s0 : Option Nat) (w : wp_J1_getOrDefault_b18 K h s0) : Gd X h 18 [none, none, none, none] [vR [4, 60] s0] := by
  unfold wp_J1_getOrDefault_b18 at w
  exact g_areturn [4, 60] C Rr rfl dJ1_getOrDefault_18 rfl ⟨_, rfl, w⟩
def wp_J1_getOrDefault_b5 (K : Option Nat → Hp → Prop) (h : Hp) (l2 : Option Nat) (s0 : Option Nat) : Prop :=
  ((s0 = none → (wp_J1_getOrDefault_b18 K h l2)) ∧ (∀ a20, s0 = some a20 → (wp_J1_getOrDefault_b18 K h (rf h 2 a20))))
set_option maxHeartbeats 4000000 in
theorem wk_J1_getOrDefault_b5 {X : Fx} {K : Option Nat → Hp → Prop} (C : Cx X cJ1_getOrDefault yJ1_getOrDefault.cls 4 7) (Rr : Rx X (Option.some (Jvm.ClassFile.FieldType.object "java/lang/Object")) (pR [4, 60] K)) (N : Nm X yJ1_getOrDefault.name) (h : Hp) (l2 : Option Nat) (s0 : Option Nat) (w : wp_J1_getOrDefault_b5 K h l2 s0) : Gd X h 5 [none, none, some (vR [4, 60] l2), none] [vR [5, 6, 7] s0] := by
  unfold wp_J1_getOrDefault_b5 at w
  refine g_dup 6 rfl C dJ1_getOrDefault_5 rfl ?_
  refine g_astore_n 7 rfl C dJ1_getOrDefault_6 (by decide) (rfl : _ = [none, none, some (vR [4, 60] _), some (vR [5, 6, 7] _)]) ?_
  refine g_ifnonnull 10 14 rfl C dJ1_getOrDefault_7 rfl (fun a20 u19 => ?_) (fun u19 => ?_)
  · have w := w.2 a20 u19
    refine g_aload_n 15 rfl C dJ1_getOrDefault_14 rfl ?_
    refine g_getR 18 rfl C dJ1_getOrDefault_15 fl_HashMap_162 rfl u19 rfl ?_
    refine g_sub [none, none, none, none] [none] rfl rfl ?_
    exact wk_J1_getOrDefault_b18 C Rr N _ _ w
  · have w := w.1 u19
    refine g_aload_n 11 rfl C dJ1_getOrDefault_10 rfl ?_
    refine g_goto 18 C dJ1_getOrDefault_11 rfl ?_
    refine g_sub [none, none, none, none] [none] rfl rfl ?_
    exact wk_J1_getOrDefault_b18 C Rr N _ _ w
def wp_J1_getOrDefault (h : Hp) (x0 : Option Nat) (x1 : Option Nat) (x2 : Option Nat) (K : Option Nat → Hp → Prop) : Prop :=
  (∃ a12, x0 = some a12 ∧ (wp_J1_getNode h x0 x1 (fun r15 h16 => Ex h h16 → (wp_J1_getOrDefault_b5 K h16 x2 r15))))
set_option maxHeartbeats 4000000 in
theorem wk_J1_getOrDefault {X : Fx} {K : Option Nat → Hp → Prop} (C : Cx X cJ1_getOrDefault yJ1_getOrDefault.cls 4 7) (Rr : Rx X (Option.some (Jvm.ClassFile.FieldType.object "java/lang/Object")) (pR [4, 60] K)) (N : Nm X yJ1_getOrDefault.name) (h : Hp) (x0 : Option Nat) (x1 : Option Nat) (x2 : Option Nat) (w : wp_J1_getOrDefault h x0 x1 x2 K) : Gd X h 0 [some (vR [2, 3] x0), some (vR [4, 60] x1), some (vR [4, 60] x2), none] [] := by
  unfold wp_J1_getOrDefault at w
  refine g_aload_n 1 rfl C dJ1_getOrDefault_0 rfl ?_
  refine g_aload_n 2 rfl C dJ1_getOrDefault_1 rfl ?_
  obtain ⟨a12, e13, w⟩ := w
  refine g_known 1 rfl e13 (fun k14 => ?_)
  have k14 : kd _ _ ∈ [2, 3] := k14
  simp only [List.mem_cons, List.not_mem_nil, or_false] at k14
  rcases k14 with k14 | k14
  · refine g_callU (As := [vR [4, 60] _]) (T := [2, 3]) (st := []) "java/util/HashMap" 5 rfl C dJ1_getOrDefault_2 q521 q1284 dcl_88e38d q1285 q513 q11 q514 okn_d1b03f (by decide) (by decide) (Nat.le_of_ble_eq_true rfl) e13 (fun _ => kC rfl k14) rfl (ct_J1_getNode C.glob w) (fun r0 h16 p17 x18 _ => ?_)
    obtain ⟨r15, rfl, w⟩ := p17
    have w := w x18
    change Gd _ _ _ _ (vR [5, 6, 7] r15 :: [])
    refine g_sub [none, none, some none, none] [none] rfl rfl ?_
    exact wk_J1_getOrDefault_b5 C Rr N _ _ _ w
  · refine g_callU (As := [vR [4, 60] _]) (T := [2, 3]) (st := []) "java/util/LinkedHashMap" 5 rfl C dJ1_getOrDefault_2 q521 q1284 dcl_88e38d q1286 q513 q11 q514 okn_d1b03f (by decide) (by decide) (Nat.le_of_ble_eq_true rfl) e13 (fun _ => kC rfl k14) rfl (ct_J1_getNode C.glob w) (fun r0 h16 p17 x18 _ => ?_)
    obtain ⟨r15, rfl, w⟩ := p17
    have w := w x18
    change Gd _ _ _ _ (vR [5, 6, 7] r15 :: [])
    refine g_sub [none, none, some none, none] [none] rfl rfl ?_
    exact wk_J1_getOrDefault_b5 C Rr N _ _ _ w
theorem ct_J1_getOrDefault {E : Gx} (GE : Glob E) {h : Hp} {x0 : Option Nat} {x1 : Option Nat} {x2 : Option Nat} {K : Option Nat → Hp → Prop} (w : wp_J1_getOrDefault h x0 x1 x2 K) : Ct E yJ1_getOrDefault cJ1_getOrDefault 4 (Option.some (Jvm.ClassFile.FieldType.object "java/lang/Object")) 7 [vR [2, 3] x0, vR [4, 60] x1, vR [4, 60] x2] h (pR [4, 60] K) :=
  Ct.of GE (by decide +kernel) (by simp [lvA, t2]) rfl (fun X hX C Rr N => wk_J1_getOrDefault C Rr N h x0 x1 x2 w)
def wp_J1_afterNodeRemoval (h : Hp) (x0 : Option Nat) (x1 : Option Nat) (K : Hp → Prop) : Prop :=
  (K h)
set_option maxHeartbeats 4000000 in
theorem wk_J1_afterNodeRemoval {X : Fx} {K : Hp → Prop} (C : Cx X cJ1_afterNodeRemoval yJ1_afterNodeRemoval.cls 2 2) (Rr : Rx X (Option.none : Option Jvm.ClassFile.FieldType) (pV K)) (N : Nm X yJ1_afterNodeRemoval.name) (h : Hp) (x0 : Option Nat) (x1 : Option Nat) (w : wp_J1_afterNodeRemoval h x0 x1 K) : Gd X h 0 [some (vR [2, 3] x0), some (vR [5, 6, 7] x1)] [] := by
  unfold wp_J1_afterNodeRemoval at w
  exact g_vreturn C Rr dJ1_afterNodeRemoval_0 ⟨rfl, w⟩
theorem ct_J1_afterNodeRemoval {E : Gx} (GE : Glob E) {h : Hp} {x0 : Option Nat} {x1 : Option Nat} {K : Hp → Prop} (w : wp_J1_afterNodeRemoval h x0 x1 K) : Ct E yJ1_afterNodeRemoval cJ1_afterNodeRemoval 2 (Option.none : Option Jvm.ClassFile.FieldType) 2 [vR [2, 3] x0, vR [5, 6, 7] x1] h (pV K) :=
  Ct.of GE (by decide +kernel) (by simp [lvA, t2]) rfl (fun X hX C Rr N => wk_J1_afterNodeRemoval C Rr N h x0 x1 w)
def wp_J2_afterNodeRemoval_b64 (K : Hp → Prop) (h : Hp)  : Prop :=
  (K h)
set_option maxHeartbeats 4000000 in
theorem wk_J2_afterNodeRemoval_b64 {X : Fx} {K : Hp → Prop} (C : Cx X cJ2_afterNodeRemoval yJ2_afterNodeRemoval.cls 5 2) (Rr : Rx X (Option.none : Option Jvm.ClassFile.FieldType) (pV K)) (N : Nm X yJ2_afterNodeRemoval.name) (h : Hp)  (w : wp_J2_afterNodeRemoval_b64 K h ) : Gd X h 64 [none, none, none, none, none] [] := by
  unfold wp_J2_afterNodeRemoval_b64 at w
  exact g_vreturn C Rr dJ2_afterNodeRemoval_64 ⟨rfl, w⟩
def wp_J2_afterNodeRemoval_b45 (K : Hp → Prop) (h : Hp) (l0 : Option Nat) (l3 : Option Nat) (l4 : Option Nat) : Prop :=
  ((l4 = none → (∃ a41, l0 = some a41 ∧ (∀ h43, h43 = wR h 20 a41 l3 → (wp_J2_afterNodeRemoval_b64 K h43)))) ∧ (∀ a40, l4 = some a40 → (∀ h44, h44 = wR h 4 a40 l3 → (wp_J2_afterNodeRemoval_b64 K h44))))
set_option maxHeartbeats 4000000 in
theorem wk_J2_afterNodeRemoval_b45 {X : Fx} {K : Hp → Prop} (C : Cx X cJ2_afterNodeRemoval yJ2_afterNodeRemoval.cls 5 2) (Rr : Rx X (Option.none : Option Jvm.ClassFile.FieldType) (pV K)) (N : Nm X yJ2_afterNodeRemoval.name) (h : Hp) (l0 : Option Nat) (l3 : Option Nat) (l4 : Option Nat) (w : wp_J2_afterNodeRemoval_b45 K h l0 l3 l4) : Gd X h 45 [some (vR [3] l0), none, none, some (vR [6, 7] l3), some (vR [6, 7] l4)] [] := by
  unfold wp_J2_afterNodeRemoval_b45 at w
  refine g_aload 47 rfl C dJ2_afterNodeRemoval_45 rfl ?_
  refine g_ifnonnull 50 58 rfl C dJ2_afterNodeRemoval_47 rfl (fun a40 u39 => ?_) (fun u39 => ?_)
  · have w := w.2 a40 u39
    refine g_aload 60 rfl C dJ2_afterNodeRemoval_58 rfl ?_
    refine g_aload_n 61 rfl C dJ2_afterNodeRemoval_60 rfl ?_
    refine g_putR 64 rfl C dJ2_afterNodeRemoval_61 fl_LinkedHashMap_19 rfl rfl rfl u39 rfl ?_
    have w := w _ rfl
    refine g_sub [none, none, none, none, none] [] rfl rfl ?_
    exact wk_J2_afterNodeRemoval_b64 C Rr N _ w
  · have w := w.1 u39
    refine g_aload_n 51 rfl C dJ2_afterNodeRemoval_50 rfl ?_
    refine g_aload_n 52 rfl C dJ2_afterNodeRemoval_51 rfl ?_
    obtain ⟨a41, e42, w⟩ := w
    refine g_putR 55 rfl C dJ2_afterNodeRemoval_52 fl_LinkedHashMap_11 rfl rfl rfl e42 rfl ?_
    have w := w _ rfl
    refine g_goto 64 C dJ2_afterNodeRemoval_55 rfl ?_
    refine g_sub [none, none, none, none, none] [] rfl rfl ?_
    exact wk_J2_afterNodeRemoval_b64 C Rr N _ w
def wp_J2_afterNodeRemoval (h : Hp) (x0 : Option Nat) (x1 : Option Nat) (K : Hp → Prop) : Prop :=
  ((∀ a, x1 = some a → kd h a ∈ [6, 7]) ∧ (∃ a29, x1 = some a29 ∧ (∀ h31, h31 = wR h 5 a29 none → (∀ h32, h32 = wR h31 4 a29 none → (((rf h 4 a29) = none → (∃ a35, x0 = some a35 ∧ (∀ h37, h37 = wR h32 19 a35 (rf h 5 a29) → (wp_J2_afterNodeRemoval_b45 K h37 x0 (rf h 4 a29) (rf h 5 a29))))) ∧ (∀ a34, (rf h 4 a29) = some a34 → (∀ h38, h38 = wR h32 5 a34 (rf h 5 a29) → (wp_J2_afterNodeRemoval_b45 K h38 x0 (rf h 4 a29) (rf h 5 a29)))))))))
set_option maxHeartbeats 4000000 in
theorem wk_J2_afterNodeRemoval {X : Fx} {K : Hp → Prop} (C : Cx X cJ2_afterNodeRemoval yJ2_afterNodeRemoval.cls 5 2) (Rr : Rx X (Option.none : Option Jvm.ClassFile.FieldType) (pV K)) (N : Nm X yJ2_afterNodeRemoval.name) (h : Hp) (x0 : Option Nat) (x1 : Option Nat) (w : wp_J2_afterNodeRemoval h x0 x1 K) : Gd X h 0 [some (vR [3] x0), some (vR [5, 6, 7] x1), none, none, none] [] := by
  unfold wp_J2_afterNodeRemoval at w
  refine g_aload_n 1 rfl C dJ2_afterNodeRemoval_0 rfl ?_
  obtain ⟨k28, w⟩ := w
  refine g_cast [6, 7] 4 rfl C dJ2_afterNodeRemoval_1 q239 co_LinkedHashMap_Entry_6_7 (fun a q _ => k28 a q) ?_
  refine g_astore_n 5 rfl C dJ2_afterNodeRemoval_4 (by decide) (rfl : _ = [some (vR [3] _), some (vR [5, 6, 7] _), some (vR [6, 7] _), none, none]) ?_
  refine g_aload_n 6 rfl C dJ2_afterNodeRemoval_5 rfl ?_
  obtain ⟨a29, e30, w⟩ := w
  refine g_getR 9 rfl C dJ2_afterNodeRemoval_6 fl_LinkedHashMap_19 rfl e30 rfl ?_
  refine g_astore_n 10 rfl C dJ2_afterNodeRemoval_9 (by decide) (rfl : _ = [some (vR [3] _), some (vR [5, 6, 7] _), some (vR [6, 7] _), some (vR [6, 7] _), none]) ?_
  refine g_aload_n 11 rfl C dJ2_afterNodeRemoval_10 rfl ?_
  refine g_getR 14 rfl C dJ2_afterNodeRemoval_11 fl_LinkedHashMap_14 rfl e30 rfl ?_
  refine g_astore 16 rfl C dJ2_afterNodeRemoval_14 (by decide) (rfl : _ = [some (vR [3] _), some (vR [5, 6, 7] _), some (vR [6, 7] _), some (vR [6, 7] _), some (vR [6, 7] _)]) ?_
  refine g_aload_n 17 rfl C dJ2_afterNodeRemoval_16 rfl ?_
  refine g_aload_n 18 rfl C dJ2_afterNodeRemoval_17 rfl ?_
  refine g_null 19 rfl C dJ2_afterNodeRemoval_18 ?_
  refine g_dup_x1 20 rfl C dJ2_afterNodeRemoval_19 rfl rfl ?_
  refine g_putR 23 rfl C dJ2_afterNodeRemoval_20 fl_LinkedHashMap_14 rfl rfl rfl e30 rfl ?_
  have w := w _ rfl
  refine g_putR 26 rfl C dJ2_afterNodeRemoval_23 fl_LinkedHashMap_19 rfl rfl rfl e30 rfl ?_
  have w := w _ rfl
  refine g_aload_n 27 rfl C dJ2_afterNodeRemoval_26 rfl ?_
  refine g_ifnonnull 30 39 rfl C dJ2_afterNodeRemoval_27 rfl (fun a34 u33 => ?_) (fun u33 => ?_)
  · have w := w.2 a34 u33
    refine g_aload_n 40 rfl C dJ2_afterNodeRemoval_39 rfl ?_
    refine g_aload 42 rfl C dJ2_afterNodeRemoval_40 rfl ?_
    refine g_putR 45 rfl C dJ2_afterNodeRemoval_42 fl_LinkedHashMap_14 rfl rfl rfl u33 rfl ?_
    have w := w _ rfl
    refine g_sub [some none, none, none, some none, some none] [] rfl rfl ?_
    exact wk_J2_afterNodeRemoval_b45 C Rr N _ _ _ _ w
  · have w := w.1 u33
    refine g_aload_n 31 rfl C dJ2_afterNodeRemoval_30 rfl ?_
    refine g_aload 33 rfl C dJ2_afterNodeRemoval_31 rfl ?_
    obtain ⟨a35, e36, w⟩ := w
    refine g_putR 36 rfl C dJ2_afterNodeRemoval_33 fl_LinkedHashMap_7 rfl rfl rfl e36 rfl ?_
    have w := w _ rfl
    refine g_goto 45 C dJ2_afterNodeRemoval_36 rfl ?_
    refine g_sub [some none, none, none, some none, some none] [] rfl rfl ?_
    exact wk_J2_afterNodeRemoval_b45 C Rr N _ _ _ _ w
theorem ct_J2_afterNodeRemoval {E : Gx} (GE : Glob E) {h : Hp} {x0 : Option Nat} {x1 : Option Nat} {K : Hp → Prop} (w : wp_J2_afterNodeRemoval h x0 x1 K) : Ct E yJ2_afterNodeRemoval cJ2_afterNodeRemoval 5 (Option.none : Option Jvm.ClassFile.FieldType) 2 [vR [3] x0, vR [5, 6, 7] x1] h (pV K) :=
  Ct.of GE (by decide +kernel) (by simp [lvA, t2]) rfl (fun X hX C Rr N => wk_J2_afterNodeRemoval C Rr N h x0 x1 w)
def wp_J8_balanceDeletion_b9 (K : Option Nat → Hp → Prop) (h : Hp) (l0 : Option Nat) : Prop :=
  (K l0 h)
set_option maxHeartbeats 4000000 in
theorem wk_J8_balanceDeletion_b9 {X : Fx} {K : Option Nat → Hp → Prop} (C : Cx X cJ8_balanceDeletion yJ8_balanceDeletion.cls 7 3) (Rr : Rx X (Option.some (Jvm.ClassFile.FieldType.object "java/util/HashMap$TreeNode")) (pR [7] K)) (N : Nm X yJ8_balanceDeletion.name) (h : Hp) (l0 : Option Nat) (w : wp_J8_balanceDeletion_b9 K h l0) : Gd X h 9 [some (vR [7] l0), none, none, none, none, none, none] [] := by
  unfold wp_J8_balanceDeletion_b9 at w
  refine g_aload_n 10 rfl C dJ8_balanceDeletion_9 rfl ?_
  exact g_areturn [7] C Rr rfl dJ8_balanceDeletion_10 rfl ⟨_, rfl, w⟩
def wp_J8_balanceDeletion_b278 (G0 : Hp → Option Nat → Option Nat → Prop) (K : Option Nat → Hp → Prop) (h : Hp) (l0 : Option Nat) (l1 : Option Nat) : Prop :=
  (G0 h l0 l1)
set_option maxHeartbeats 4000000 in
theorem wk_J8_balanceDeletion_b278 {X : Fx} {K : Option Nat → Hp → Prop} (C : Cx X cJ8_balanceDeletion yJ8_balanceDeletion.cls 7 3) (Rr : Rx X (Option.some (Jvm.ClassFile.FieldType.object "java/util/HashMap$TreeNode")) (pR [7] K)) (N : Nm X yJ8_balanceDeletion.name) {G0 : Hp → Option Nat → Option Nat → Prop} (k0 : ∀ (h : Hp) (l0 : Option Nat) (l1 : Option Nat), G0 h l0 l1 → Gd X h 0 [some (vR [7] l0), some (vR [7] l1), none, none, none, none, none] []) (h : Hp) (l0 : Option Nat) (l1 : Option Nat) (w : wp_J8_balanceDeletion_b278 G0 K h l0 l1) : Gd X h 278 [some (vR [7] l0), some (vR [7] l1), none, none, none, none, none] [] := by
  unfold wp_J8_balanceDeletion_b278 at w
  refine g_goto 0 C dJ8_balanceDeletion_278 rfl ?_
  refine g_sub [some none, some none, none, none, none, none, none] [] rfl rfl ?_
  exact k0 _ _ _ w
def wp_J8_balanceDeletion_b155 (G0 : Hp → Option Nat → Option Nat → Prop) (K : Option Nat → Hp → Prop) (h : Hp) (l0 : Option Nat) (l2 : Option Nat) (l4 : Option Nat) : Prop :=
  (∃ a319, l4 = some a319 ∧ (∀ h321, h321 = wI h 10 a319 1 → (wp_J8_balanceDeletion_b278 G0 K h321 l0 l2)))
set_option maxHeartbeats 4000000 in
theorem wk_J8_balanceDeletion_b155 {X : Fx} {K : Option Nat → Hp → Prop} (C : Cx X cJ8_balanceDeletion yJ8_balanceDeletion.cls 7 3) (Rr : Rx X (Option.some (Jvm.ClassFile.FieldType.object "java/util/HashMap$TreeNode")) (pR [7] K)) (N : Nm X yJ8_balanceDeletion.name) {G0 : Hp → Option Nat → Option Nat → Prop} (k0 : ∀ (h : Hp) (l0 : Option Nat) (l1 : Option Nat), G0 h l0 l1 → Gd X h 0 [some (vR [7] l0), some (vR [7] l1), none, none, none, none, none] []) (h : Hp) (l0 : Option Nat) (l2 : Option Nat) (l4 : Option Nat) (w : wp_J8_balanceDeletion_b155 G0 K h l0 l2 l4) : Gd X h 155 [some (vR [7] l0), none, some (vR [7] l2), none, some (vR [7] l4), none, none] [] := by
  unfold wp_J8_balanceDeletion_b155 at w
  refine g_aload 157 rfl C dJ8_balanceDeletion_155 rfl ?_
  refine g_iconst 158 rfl C dJ8_balanceDeletion_157 1 rfl ?_
  obtain ⟨a319, e320, w⟩ := w
  refine g_putZ 161 rfl C dJ8_balanceDeletion_158 fl_HashMap_TreeNode_93 rfl rfl (Or.inr rfl) e320 rfl ?_
  have w := w _ rfl
  refine g_aload_n 162 rfl C dJ8_balanceDeletion_161 rfl ?_
  refine g_astore_n 163 rfl C dJ8_balanceDeletion_162 (by decide) (rfl : _ = [some (vR [7] _), some (vR [7] _), some (vR [7] _), none, some (vR [7] _), none, none]) ?_
  refine g_goto 278 C dJ8_balanceDeletion_163 rfl ?_
  refine g_sub [some none, some none, none, none, none, none, none] [] rfl rfl ?_
  exact wk_J8_balanceDeletion_b278 C Rr N k0 _ _ _ w
def wp_J8_balanceDeletion_b276 (G0 : Hp → Option Nat → Option Nat → Prop) (K : Option Nat → Hp → Prop) (h : Hp) (l0 : Option Nat) : Prop :=
  (wp_J8_balanceDeletion_b278 G0 K h l0 l0)
set_option maxHeartbeats 4000000 in
theorem wk_J8_balanceDeletion_b276 {X : Fx} {K : Option Nat → Hp → Prop} (C : Cx X cJ8_balanceDeletion yJ8_balanceDeletion.cls 7 3) (Rr : Rx X (Option.some (Jvm.ClassFile.FieldType.object "java/util/HashMap$TreeNode")) (pR [7] K)) (N : Nm X yJ8_balanceDeletion.name) {G0 : Hp → Option Nat → Option Nat → Prop} (k0 : ∀ (h : Hp) (l0 : Option Nat) (l1 : Option Nat), G0 h l0 l1 → Gd X h 0 [some (vR [7] l0), some (vR [7] l1), none, none, none, none, none] []) (h : Hp) (l0 : Option Nat) (w : wp_J8_balanceDeletion_b276 G0 K h l0) : Gd X h 276 [some (vR [7] l0), none, none, none, none, none, none] [] := by
  unfold wp_J8_balanceDeletion_b276 at w
  refine g_aload_n 277 rfl C dJ8_balanceDeletion_276 rfl ?_
  refine g_astore_n 278 rfl C dJ8_balanceDeletion_277 (by decide) (rfl : _ = [some (vR [7] _), some (vR [7] _), none, none, none, none, none]) ?_
  refine g_sub [some none, some none, none, none, none, none, none] [] rfl rfl ?_
  exact wk_J8_balanceDeletion_b278 C Rr N k0 _ _ _ w
def wp_J8_balanceDeletion_b261 (G0 : Hp → Option Nat → Option Nat → Prop) (K : Option Nat → Hp → Prop) (h : Hp) (l0 : Option Nat) (l2 : Option Nat) : Prop :=
  ((l2 = none → (wp_J8_balanceDeletion_b276 G0 K h l0)) ∧ (∀ a270, l2 = some a270 → (∀ h271, h271 = wI h 10 a270 0 → (wp_J8_rotateLeft h271 l0 l2 (fun r273 h274 => Ex h271 h274 → (wp_J8_balanceDeletion_b276 G0 K h274 r273))))))
set_option maxHeartbeats 4000000 in
theorem wk_J8_balanceDeletion_b261 {X : Fx} {K : Option Nat → Hp → Prop} (C : Cx X cJ8_balanceDeletion yJ8_balanceDeletion.cls 7 3) (Rr : Rx X (Option.some (Jvm.ClassFile.FieldType.object "java/util/HashMap$TreeNode")) (pR [7] K)) (N : Nm X yJ8_balanceDeletion.name) {G0 : Hp → Option Nat → Option Nat → Prop} (k0 : ∀ (h : Hp) (l0 : Option Nat) (l1 : Option Nat), G0 h l0 l1 → Gd X h 0 [some (vR [7] l0), some (vR [7] l1), none, none, none, none, none] []) (h : Hp) (l0 : Option Nat) (l2 : Option Nat) (w : wp_J8_balanceDeletion_b261 G0 K h l0 l2) : Gd X h 261 [some (vR [7] l0), none, some (vR [7] l2), none, none, none, none] [] := by
  unfold wp_J8_balanceDeletion_b261 at w
  refine g_aload_n 262 rfl C dJ8_balanceDeletion_261 rfl ?_
  refine g_ifnull 265 276 rfl C dJ8_balanceDeletion_262 rfl (fun u269 => ?_) (fun a270 u269 => ?_)
  · have w := w.1 u269
    refine g_sub [some none, none, none, none, none, none, none] [] rfl rfl ?_
    exact wk_J8_balanceDeletion_b276 C Rr N k0 _ _ w
  · have w := w.2 a270 u269
    refine g_aload_n 266 rfl C dJ8_balanceDeletion_265 rfl ?_
    refine g_iconst 267 rfl C dJ8_balanceDeletion_266 0 rfl ?_
    refine g_putZ 270 rfl C dJ8_balanceDeletion_267 fl_HashMap_TreeNode_93 rfl rfl (Or.inl rfl) u269 rfl ?_
    have w := w _ rfl
    refine g_aload_n 271 rfl C dJ8_balanceDeletion_270 rfl ?_
    refine g_aload_n 272 rfl C dJ8_balanceDeletion_271 rfl ?_
    refine g_callS (As := [vR [7] _, vR [7] _]) (st := []) 275 rfl C dJ8_balanceDeletion_272 q358 q359 q21 q360 okn_1ce7d6 (by decide) (by decide) (Nat.le_of_ble_eq_true rfl) rfl (ct_J8_rotateLeft C.glob w) (fun r0 h274 p275 x276 _ => ?_)
    obtain ⟨r273, rfl, w⟩ := p275
    have w := w x276
    change Gd _ _ _ _ (vR [7] r273 :: [])
    refine g_astore_n 276 rfl C dJ8_balanceDeletion_275 (by decide) (rfl : _ = [some (vR [7] _), none, some (vR [7] _), none, none, none, none]) ?_
    refine g_sub [some none, none, none, none, none, none, none] [] rfl rfl ?_
    exact wk_J8_balanceDeletion_b276 C Rr N k0 _ _ w
def wp_J8_balanceDeletion_b241 (G0 : Hp → Option Nat → Option Nat → Prop) (K : Option Nat → Hp → Prop) (h : Hp) (l0 : Option Nat) (l2 : Option Nat) (l4 : Option Nat) (s0 : Int32) (s1 : Option Nat) : Prop :=
  (∃ a341, s1 = some a341 ∧ ((s0 = 0 ∨ s0 = 1) ∧ (∀ h343, h343 = wI h 10 a341 s0 → (∃ a345, l4 = some a345 ∧ (((rf h343 8 a345) = none → (wp_J8_balanceDeletion_b261 G0 K h343 l0 l2)) ∧ (∀ a348, (rf h343 8 a345) = some a348 → (∀ h349, h349 = wI h343 10 a348 0 → (wp_J8_balanceDeletion_b261 G0 K h349 l0 l2))))))))
set_option maxHeartbeats 4000000 in
theorem wk_J8_balanceDeletion_b241 {X : Fx} {K : Option Nat → Hp → Prop} (C : Cx X cJ8_balanceDeletion yJ8_balanceDeletion.cls 7 3) (Rr : Rx X (Option.some (Jvm.ClassFile.FieldType.object "java/util/HashMap$TreeNode")) (pR [7] K)) (N : Nm X yJ8_balanceDeletion.name) {G0 : Hp → Option Nat → Option Nat → Prop} (k0 : ∀ (h : Hp) (l0 : Option Nat) (l1 : Option Nat), G0 h l0 l1 → Gd X h 0 [some (vR [7] l0), some (vR [7] l1), none, none, none, none, none] []) (h : Hp) (l0 : Option Nat) (l2 : Option Nat) (l4 : Option Nat) (s0 : Int32) (s1 : Option Nat) (w : wp_J8_balanceDeletion_b241 G0 K h l0 l2 l4 s0 s1) : Gd X h 241 [some (vR [7] l0), none, some (vR [7] l2), none, some (vR [7] l4), none, none] [vI s0, vR [7] s1] := by
  unfold wp_J8_balanceDeletion_b241 at w
  obtain ⟨a341, e342, w⟩ := w
  obtain ⟨z344, w⟩ := w
  refine g_putZ 244 rfl C dJ8_balanceDeletion_241 fl_HashMap_TreeNode_93 rfl rfl z344 e342 rfl ?_
  have w := w _ rfl
  refine g_aload 246 rfl C dJ8_balanceDeletion_244 rfl ?_
  obtain ⟨a345, e346, w⟩ := w
  refine g_getR 249 rfl C dJ8_balanceDeletion_246 fl_HashMap_TreeNode_42 rfl e346 rfl ?_
  refine g_dup 250 rfl C dJ8_balanceDeletion_249 rfl ?_
  refine g_astore 252 rfl C dJ8_balanceDeletion_250 (by decide) (rfl : _ = [some (vR [7] _), none, some (vR [7] _), none, some (vR [7] _), none, some (vR [7] _)]) ?_
  refine g_ifnull 255 261 rfl C dJ8_balanceDeletion_252 rfl (fun u347 => ?_) (fun a348 u347 => ?_)
  · have w := w.1 u347
    refine g_sub [some none, none, some none, none, none, none, none] [] rfl rfl ?_
    exact wk_J8_balanceDeletion_b261 C Rr N k0 _ _ _ w
  · have w := w.2 a348 u347
    refine g_aload 257 rfl C dJ8_balanceDeletion_255 rfl ?_
    refine g_iconst 258 rfl C dJ8_balanceDeletion_257 0 rfl ?_
    refine g_putZ 261 rfl C dJ8_balanceDeletion_258 fl_HashMap_TreeNode_93 rfl rfl (Or.inl rfl) u347 rfl ?_
    have w := w _ rfl
    refine g_sub [some none, none, some none, none, none, none, none] [] rfl rfl ?_
    exact wk_J8_balanceDeletion_b261 C Rr N k0 _ _ _ w
def wp_J8_balanceDeletion_b222 (G0 : Hp → Option Nat → Option Nat → Prop) (K : Option Nat → Hp → Prop) (h : Hp) (l0 : Option Nat) (l2 : Option Nat) (l4 : Option Nat) : Prop :=
  ((l4 = none → (wp_J8_balanceDeletion_b261 G0 K h l0 l2)) ∧ (∀ a323, l4 = some a323 → ((l2 = none → (wp_J8_balanceDeletion_b241 G0 K h l0 l2 l4 0 l4)) ∧ (∀ a325, l2 = some a325 → ((it h 10 a325) = 0 ∨ (it h 10 a325) = 1 → (wp_J8_balanceDeletion_b241 G0 K h l0 l2 l4 (it h 10 a325) l4))))))
set_option maxHeartbeats 4000000 in
theorem wk_J8_balanceDeletion_b222 {X : Fx} {K : Option Nat → Hp → Prop} (C : Cx X cJ8_balanceDeletion yJ8_balanceDeletion.cls 7 3) (Rr : Rx X (Option.some (Jvm.ClassFile.FieldType.object "java/util/HashMap$TreeNode")) (pR [7] K)) (N : Nm X yJ8_balanceDeletion.name) {G0 : Hp → Option Nat → Option Nat → Prop} (k0 : ∀ (h : Hp) (l0 : Option Nat) (l1 : Option Nat), G0 h l0 l1 → Gd X h 0 [some (vR [7] l0), some (vR [7] l1), none, none, none, none, none] []) (h : Hp) (l0 : Option Nat) (l2 : Option Nat) (l4 : Option Nat) (w : wp_J8_balanceDeletion_b222 G0 K h l0 l2 l4) : Gd X h 222 [some (vR [7] l0), none, some (vR [7] l2), none, some (vR [7] l4), none, none] [] := by
  unfold wp_J8_balanceDeletion_b222 at w
  refine g_aload 224 rfl C dJ8_balanceDeletion_222 rfl ?_
  refine g_ifnull 227 261 rfl C dJ8_balanceDeletion_224 rfl (fun u322 => ?_) (fun a323 u322 => ?_)
  · have w := w.1 u322
    refine g_sub [some none, none, some none, none, none, none, none] [] rfl rfl ?_
    exact wk_J8_balanceDeletion_b261 C Rr N k0 _ _ _ w
  · have w := w.2 a323 u322
    refine g_aload 229 rfl C dJ8_balanceDeletion_227 rfl ?_
    refine g_aload_n 230 rfl C dJ8_balanceDeletion_229 rfl ?_
    refine g_ifnonnull 233 237 rfl C dJ8_balanceDeletion_230 rfl (fun a325 u324 => ?_) (fun u324 => ?_)
    · have w := w.2 a325 u324
      refine g_aload_n 238 rfl C dJ8_balanceDeletion_237 rfl ?_
      refine g_getZ 241 rfl C dJ8_balanceDeletion_238 fl_HashMap_TreeNode_93 rfl u324 rfl (fun z326 => ?_)
      have w := w z326
      refine g_sub [some none, none, some none, none, some none, none, none] [none, none] rfl rfl ?_
      exact wk_J8_balanceDeletion_b241 C Rr N k0 _ _ _ _ _ _ w
    · have w := w.1 u324
      refine g_iconst 234 rfl C dJ8_balanceDeletion_233 0 rfl ?_
      refine g_goto 241 C dJ8_balanceDeletion_234 rfl ?_
      refine g_sub [some none, none, some none, none, some none, none, none] [none, none] rfl rfl ?_
      exact wk_J8_balanceDeletion_b241 C Rr N k0 _ _ _ _ _ _ w
def wp_J8_balanceDeletion_b220 (G0 : Hp → Option Nat → Option Nat → Prop) (K : Option Nat → Hp → Prop) (h : Hp) (l0 : Option Nat) (l2 : Option Nat) (s0 : Option Nat) : Prop :=
  (wp_J8_balanceDeletion_b222 G0 K h l0 l2 s0)
set_option maxHeartbeats 4000000 in
theorem wk_J8_balanceDeletion_b220 {X : Fx} {K : Option Nat → Hp → Prop} (C : Cx X cJ8_balanceDeletion yJ8_balanceDeletion.cls 7 3) (Rr : Rx X (Option.some (Jvm.ClassFile.FieldType.object "java/util/HashMap$TreeNode")) (pR [7] K)) (N : Nm X yJ8_balanceDeletion.name) {G0 : Hp → Option Nat → Option Nat → Prop} (k0 : ∀ (h : Hp) (l0 : Option Nat) (l1 : Option Nat), G0 h l0 l1 → Gd X h 0 [some (vR [7] l0), some (vR [7] l1), none, none, none, none, none] []) (h : Hp) (l0 : Option Nat) (l2 : Option Nat) (s0 : Option Nat) (w : wp_J8_balanceDeletion_b220 G0 K h l0 l2 s0) : Gd X h 220 [some (vR [7] l0), none, some (vR [7] l2), none, none, none, none] [vR [7] s0] := by
  unfold wp_J8_balanceDeletion_b220 at w
  refine g_astore 222 rfl C dJ8_balanceDeletion_220 (by decide) (rfl : _ = [some (vR [7] _), none, some (vR [7] _), none, some (vR [7] _), none, none]) ?_
  refine g_sub [some none, none, some none, none, some none, none, none] [] rfl rfl ?_
  exact wk_J8_balanceDeletion_b222 C Rr N k0 _ _ _ _ w
def wp_J8_balanceDeletion_b190 (G0 : Hp → Option Nat → Option Nat → Prop) (K : Option Nat → Hp → Prop) (h : Hp) (l0 : Option Nat) (l1 : Option Nat) (l4 : Option Nat) : Prop :=
  (∃ a361, l4 = some a361 ∧ (∀ h363, h363 = wI h 10 a361 1 → (wp_J8_rotateRight h363 l0 l4 (fun r365 h366 => Ex h363 h366 → (∃ a369, l1 = some a369 ∧ (((rf h366 6 a369) = none → (wp_J8_balanceDeletion_b220 G0 K h366 r365 (rf h366 6 a369) none)) ∧ (∀ a372, (rf h366 6 a369) = some a372 → (wp_J8_balanceDeletion_b220 G0 K h366 r365 (rf h366 6 a369) (rf h366 8 a372)))))))))
set_option maxHeartbeats 4000000 in
theorem wk_J8_balanceDeletion_b190 {X : Fx} {K : Option Nat → Hp → Prop} (C : Cx X cJ8_balanceDeletion yJ8_balanceDeletion.cls 7 3) (Rr : Rx X (Option.some (Jvm.ClassFile.FieldType.object "java/util/HashMap$TreeNode")) (pR [7] K)) (N : Nm X yJ8_balanceDeletion.name) {G0 : Hp → Option Nat → Option Nat → Prop} (k0 : ∀ (h : Hp) (l0 : Option Nat) (l1 : Option Nat), G0 h l0 l1 → Gd X h 0 [some (vR [7] l0), some (vR [7] l1), none, none, none, none, none] []) (h : Hp) (l0 : Option Nat) (l1 : Option Nat) (l4 : Option Nat) (w : wp_J8_balanceDeletion_b190 G0 K h l0 l1 l4) : Gd X h 190 [some (vR [7] l0), some (vR [7] l1), none, none, some (vR [7] l4), none, none] [] := by
  unfold wp_J8_balanceDeletion_b190 at w
  refine g_aload 192 rfl C dJ8_balanceDeletion_190 rfl ?_
  refine g_iconst 193 rfl C dJ8_balanceDeletion_192 1 rfl ?_
  obtain ⟨a361, e362, w⟩ := w
  refine g_putZ 196 rfl C dJ8_balanceDeletion_193 fl_HashMap_TreeNode_93 rfl rfl (Or.inr rfl) e362 rfl ?_
  have w := w _ rfl
  refine g_aload_n 197 rfl C dJ8_balanceDeletion_196 rfl ?_
  refine g_aload 199 rfl C dJ8_balanceDeletion_197 rfl ?_
  refine g_callS (As := [vR [7] _, vR [7] _]) (st := []) 202 rfl C dJ8_balanceDeletion_199 q361 q362 q21 q363 okn_3b0f86 (by decide) (by decide) (Nat.le_of_ble_eq_true rfl) rfl (ct_J8_rotateRight C.glob w) (fun r0 h366 p367 x368 _ => ?_)
  obtain ⟨r365, rfl, w⟩ := p367
  have w := w x368
  change Gd _ _ _ _ (vR [7] r365 :: [])
  refine g_astore_n 203 rfl C dJ8_balanceDeletion_202 (by decide) (rfl : _ = [some (vR [7] _), some (vR [7] _), none, none, some (vR [7] _), none, none]) ?_
  refine g_aload_n 204 rfl C dJ8_balanceDeletion_203 rfl ?_
  obtain ⟨a369, e370, w⟩ := w
  refine g_getR 207 rfl C dJ8_balanceDeletion_204 fl_HashMap_TreeNode_9 rfl e370 rfl ?_
  refine g_dup 208 rfl C dJ8_balanceDeletion_207 rfl ?_
  refine g_astore_n 209 rfl C dJ8_balanceDeletion_208 (by decide) (rfl : _ = [some (vR [7] _), some (vR [7] _), some (vR [7] _), none, some (vR [7] _), none, none]) ?_
  refine g_ifnonnull 212 216 rfl C dJ8_balanceDeletion_209 rfl (fun a372 u371 => ?_) (fun u371 => ?_)
  · have w := w.2 a372 u371
    refine g_aload_n 217 rfl C dJ8_balanceDeletion_216 rfl ?_
    refine g_getR 220 rfl C dJ8_balanceDeletion_217 fl_HashMap_TreeNode_42 rfl u371 rfl ?_
    refine g_sub [some none, none, some none, none, none, none, none] [none] rfl rfl ?_
    exact wk_J8_balanceDeletion_b220 C Rr N k0 _ _ _ _ w
  · have w := w.1 u371
    refine g_null 213 rfl C dJ8_balanceDeletion_212 ?_
    refine g_goto 220 C dJ8_balanceDeletion_213 rfl ?_
    refine g_sub [some none, none, some none, none, none, none, none] [some [7]] rfl rfl ?_
    exact wk_J8_balanceDeletion_b220 C Rr N k0 _ _ _ _ w
def wp_J8_balanceDeletion_b179 (G0 : Hp → Option Nat → Option Nat → Prop) (K : Option Nat → Hp → Prop) (h : Hp) (l0 : Option Nat) (l1 : Option Nat) (l4 : Option Nat) (l5 : Option Nat) : Prop :=
  ((l5 = none → (wp_J8_balanceDeletion_b190 G0 K h l0 l1 l4)) ∧ (∀ a351, l5 = some a351 → (∀ h352, h352 = wI h 10 a351 0 → (wp_J8_balanceDeletion_b190 G0 K h352 l0 l1 l4))))
set_option maxHeartbeats 4000000 in
theorem wk_J8_balanceDeletion_b179 {X : Fx} {K : Option Nat → Hp → Prop} (C : Cx X cJ8_balanceDeletion yJ8_balanceDeletion.cls 7 3) (Rr : Rx X (Option.some (Jvm.ClassFile.FieldType.object "java/util/HashMap$TreeNode")) (pR [7] K)) (N : Nm X yJ8_balanceDeletion.name) {G0 : Hp → Option Nat → Option Nat → Prop} (k0 : ∀ (h : Hp) (l0 : Option Nat) (l1 : Option Nat), G0 h l0 l1 → Gd X h 0 [some (vR [7] l0), some (vR [7] l1), none, none, none, none, none] []) (h : Hp) (l0 : Option Nat) (l1 : Option Nat) (l4 : Option Nat) (l5 : Option Nat) (w : wp_J8_balanceDeletion_b179 G0 K h l0 l1 l4 l5) : Gd X h 179 [some (vR [7] l0), some (vR [7] l1), none, none, some (vR [7] l4), some (vR [7] l5), none] [] := by
  unfold wp_J8_balanceDeletion_b179 at w
  refine g_aload 181 rfl C dJ8_balanceDeletion_179 rfl ?_
  refine g_ifnull 184 190 rfl C dJ8_balanceDeletion_181 rfl (fun u350 => ?_) (fun a351 u350 => ?_)
  · have w := w.1 u350
    refine g_sub [some none, some none, none, none, some none, none, none] [] rfl rfl ?_
    exact wk_J8_balanceDeletion_b190 C Rr N k0 _ _ _ _ w
  · have w := w.2 a351 u350
    refine g_aload 186 rfl C dJ8_balanceDeletion_184 rfl ?_
    refine g_iconst 187 rfl C dJ8_balanceDeletion_186 0 rfl ?_
    refine g_putZ 190 rfl C dJ8_balanceDeletion_187 fl_HashMap_TreeNode_93 rfl rfl (Or.inl rfl) u350 rfl ?_
    have w := w _ rfl
    refine g_sub [some none, some none, none, none, some none, none, none] [] rfl rfl ?_
    exact wk_J8_balanceDeletion_b190 C Rr N k0 _ _ _ _ w
def wp_J8_balanceDeletion_b166 (G0 : Hp → Option Nat → Option Nat → Prop) (K : Option Nat → Hp → Prop) (h : Hp) (l0 : Option Nat) (l1 : Option Nat) (l2 : Option Nat) (l4 : Option Nat) (l5 : Option Nat) (l6 : Option Nat) : Prop :=
  ((l6 = none → (wp_J8_balanceDeletion_b179 G0 K h l0 l1 l4 l5)) ∧ (∀ a328, l6 = some a328 → ((it h 10 a328) = 0 ∨ (it h 10 a328) = 1 → ((¬ (it h 10 a328) = 0 → (wp_J8_balanceDeletion_b222 G0 K h l0 l2 l4)) ∧ ((it h 10 a328) = 0 → (wp_J8_balanceDeletion_b179 G0 K h l0 l1 l4 l5))))))
set_option maxHeartbeats 4000000 in
theorem wk_J8_balanceDeletion_b166 {X : Fx} {K : Option Nat → Hp → Prop} (C : Cx X cJ8_balanceDeletion yJ8_balanceDeletion.cls 7 3) (Rr : Rx X (Option.some (Jvm.ClassFile.FieldType.object "java/util/HashMap$TreeNode")) (pR [7] K)) (N : Nm X yJ8_balanceDeletion.name) {G0 : Hp → Option Nat → Option Nat → Prop} (k0 : ∀ (h : Hp) (l0 : Option Nat) (l1 : Option Nat), G0 h l0 l1 → Gd X h 0 [some (vR [7] l0), some (vR [7] l1), none, none, none, none, none] []) (h : Hp) (l0 : Option Nat) (l1 : Option Nat) (l2 : Option Nat) (l4 : Option Nat) (l5 : Option Nat) (l6 : Option Nat) (w : wp_J8_balanceDeletion_b166 G0 K h l0 l1 l2 l4 l5 l6) : Gd X h 166 [some (vR [7] l0), some (vR [7] l1), some (vR [7] l2), none, some (vR [7] l4), some (vR [7] l5), some (vR [7] l6)] [] := by
  unfold wp_J8_balanceDeletion_b166 at w
  refine g_aload 168 rfl C dJ8_balanceDeletion_166 rfl ?_
  refine g_ifnull 171 179 rfl C dJ8_balanceDeletion_168 rfl (fun u327 => ?_) (fun a328 u327 => ?_)
  · have w := w.1 u327
    refine g_sub [some none, some none, none, none, some none, some none, none] [] rfl rfl ?_
    exact wk_J8_balanceDeletion_b179 C Rr N k0 _ _ _ _ _ w
  · have w := w.2 a328 u327
    refine g_aload 173 rfl C dJ8_balanceDeletion_171 rfl ?_
    refine g_getZ 176 rfl C dJ8_balanceDeletion_173 fl_HashMap_TreeNode_93 rfl u327 rfl (fun z329 => ?_)
    have w := w z329
    refine g_if_ne 179 222 rfl C dJ8_balanceDeletion_176 rfl (fun u330 => ?_) (fun u330 => ?_)
    · have w := w.1 u330
      refine g_sub [some none, none, some none, none, some none, none, none] [] rfl rfl ?_
      exact wk_J8_balanceDeletion_b222 C Rr N k0 _ _ _ _ w
    · have w := w.2 u330
      refine g_sub [some none, some none, none, none, some none, some none, none] [] rfl rfl ?_
      exact wk_J8_balanceDeletion_b179 C Rr N k0 _ _ _ _ _ w
def wp_J8_balanceDeletion_b142 (G0 : Hp → Option Nat → Option Nat → Prop) (K : Option Nat → Hp → Prop) (h : Hp) (l0 : Option Nat) (l1 : Option Nat) (l2 : Option Nat) (l4 : Option Nat) (l5 : Option Nat) (l6 : Option Nat) : Prop :=
  ((l5 = none → (wp_J8_balanceDeletion_b155 G0 K h l0 l2 l4)) ∧ (∀ a296, l5 = some a296 → ((it h 10 a296) = 0 ∨ (it h 10 a296) = 1 → ((¬ (it h 10 a296) = 0 → (wp_J8_balanceDeletion_b166 G0 K h l0 l1 l2 l4 l5 l6)) ∧ ((it h 10 a296) = 0 → (wp_J8_balanceDeletion_b155 G0 K h l0 l2 l4))))))
set_option maxHeartbeats 4000000 in
theorem wk_J8_balanceDeletion_b142 {X : Fx} {K : Option Nat → Hp → Prop} (C : Cx X cJ8_balanceDeletion yJ8_balanceDeletion.cls 7 3) (Rr : Rx X (Option.some (Jvm.ClassFile.FieldType.object "java/util/HashMap$TreeNode")) (pR [7] K)) (N : Nm X yJ8_balanceDeletion.name) {G0 : Hp → Option Nat → Option Nat → Prop} (k0 : ∀ (h : Hp) (l0 : Option Nat) (l1 : Option Nat), G0 h l0 l1 → Gd X h 0 [some (vR [7] l0), some (vR [7] l1), none, none, none, none, none] []) (h : Hp) (l0 : Option Nat) (l1 : Option Nat) (l2 : Option Nat) (l4 : Option Nat) (l5 : Option Nat) (l6 : Option Nat) (w : wp_J8_balanceDeletion_b142 G0 K h l0 l1 l2 l4 l5 l6) : Gd X h 142 [some (vR [7] l0), some (vR [7] l1), some (vR [7] l2), none, some (vR [7] l4), some (vR [7] l5), some (vR [7] l6)] [] := by
  unfold wp_J8_balanceDeletion_b142 at w
  refine g_aload 144 rfl C dJ8_balanceDeletion_142 rfl ?_
  refine g_ifnull 147 155 rfl C dJ8_balanceDeletion_144 rfl (fun u295 => ?_) (fun a296 u295 => ?_)
  · have w := w.1 u295
    refine g_sub [some none, none, some none, none, some none, none, none] [] rfl rfl ?_
    exact wk_J8_balanceDeletion_b155 C Rr N k0 _ _ _ _ w
  · have w := w.2 a296 u295
    refine g_aload 149 rfl C dJ8_balanceDeletion_147 rfl ?_
    refine g_getZ 152 rfl C dJ8_balanceDeletion_149 fl_HashMap_TreeNode_93 rfl u295 rfl (fun z297 => ?_)
    have w := w z297
    refine g_if_ne 155 166 rfl C dJ8_balanceDeletion_152 rfl (fun u298 => ?_) (fun u298 => ?_)
    · have w := w.1 u298
      refine g_sub [some none, some none, some none, none, some none, some none, some none] [] rfl rfl ?_
      exact wk_J8_balanceDeletion_b166 C Rr N k0 _ _ _ _ _ _ _ w
    · have w := w.2 u298
      refine g_sub [some none, none, some none, none, some none, none, none] [] rfl rfl ?_
      exact wk_J8_balanceDeletion_b155 C Rr N k0 _ _ _ _ w
def wp_J8_balanceDeletion_b105 (G0 : Hp → Option Nat → Option Nat → Prop) (K : Option Nat → Hp → Prop) (h : Hp) (l0 : Option Nat) (l1 : Option Nat) (l2 : Option Nat) (l4 : Option Nat) : Prop :=
  ((l4 = none → (G0 h l0 l2)) ∧ (∀ a332, l4 = some a332 → (((rf h 8 a332) = none → (wp_J8_balanceDeletion_b142 G0 K h l0 l1 l2 l4 (rf h 7 a332) (rf h 8 a332))) ∧ (∀ a334, (rf h 8 a332) = some a334 → ((it h 10 a334) = 0 ∨ (it h 10 a334) = 1 → ((¬ (it h 10 a334) = 0 → (wp_J8_balanceDeletion_b166 G0 K h l0 l1 l2 l4 (rf h 7 a332) (rf h 8 a332))) ∧ ((it h 10 a334) = 0 → (wp_J8_balanceDeletion_b142 G0 K h l0 l1 l2 l4 (rf h 7 a332) (rf h 8 a332)))))))))
set_option maxHeartbeats 4000000 in
theorem wk_J8_balanceDeletion_b105 {X : Fx} {K : Option Nat → Hp → Prop} (C : Cx X cJ8_balanceDeletion yJ8_balanceDeletion.cls 7 3) (Rr : Rx X (Option.some (Jvm.ClassFile.FieldType.object "java/util/HashMap$TreeNode")) (pR [7] K)) (N : Nm X yJ8_balanceDeletion.name) {G0 : Hp → Option Nat → Option Nat → Prop} (k0 : ∀ (h : Hp) (l0 : Option Nat) (l1 : Option Nat), G0 h l0 l1 → Gd X h 0 [some (vR [7] l0), some (vR [7] l1), none, none, none, none, none] []) (h : Hp) (l0 : Option Nat) (l1 : Option Nat) (l2 : Option Nat) (l4 : Option Nat) (w : wp_J8_balanceDeletion_b105 G0 K h l0 l1 l2 l4) : Gd X h 105 [some (vR [7] l0), some (vR [7] l1), some (vR [7] l2), none, some (vR [7] l4), none, none] [] := by
  unfold wp_J8_balanceDeletion_b105 at w
  refine g_aload 107 rfl C dJ8_balanceDeletion_105 rfl ?_
  refine g_ifnonnull 110 115 rfl C dJ8_balanceDeletion_107 rfl (fun a332 u331 => ?_) (fun u331 => ?_)
  · have w := w.2 a332 u331
    refine g_aload 117 rfl C dJ8_balanceDeletion_115 rfl ?_
    refine g_getR 120 rfl C dJ8_balanceDeletion_117 fl_HashMap_TreeNode_39 rfl u331 rfl ?_
    refine g_astore 122 rfl C dJ8_balanceDeletion_120 (by decide) (rfl : _ = [some (vR [7] _), some (vR [7] _), some (vR [7] _), none, some (vR [7] _), some (vR [7] _), none]) ?_
    refine g_aload 124 rfl C dJ8_balanceDeletion_122 rfl ?_
    refine g_getR 127 rfl C dJ8_balanceDeletion_124 fl_HashMap_TreeNode_42 rfl u331 rfl ?_
    refine g_astore 129 rfl C dJ8_balanceDeletion_127 (by decide) (rfl : _ = [some (vR [7] _), some (vR [7] _), some (vR [7] _), none, some (vR [7] _), some (vR [7] _), some (vR [7] _)]) ?_
    refine g_aload 131 rfl C dJ8_balanceDeletion_129 rfl ?_
    refine g_ifnull 134 142 rfl C dJ8_balanceDeletion_131 rfl (fun u333 => ?_) (fun a334 u333 => ?_)
    · have w := w.1 u333
      refine g_sub [some none, some none, some none, none, some none, some none, some none] [] rfl rfl ?_
      exact wk_J8_balanceDeletion_b142 C Rr N k0 _ _ _ _ _ _ _ w
    · have w := w.2 a334 u333
      refine g_aload 136 rfl C dJ8_balanceDeletion_134 rfl ?_
      refine g_getZ 139 rfl C dJ8_balanceDeletion_136 fl_HashMap_TreeNode_93 rfl u333 rfl (fun z335 => ?_)
      have w := w z335
      refine g_if_ne 142 166 rfl C dJ8_balanceDeletion_139 rfl (fun u336 => ?_) (fun u336 => ?_)
      · have w := w.1 u336
        refine g_sub [some none, some none, some none, none, some none, some none, some none] [] rfl rfl ?_
        exact wk_J8_balanceDeletion_b166 C Rr N k0 _ _ _ _ _ _ _ w
      · have w := w.2 u336
        refine g_sub [some none, some none, some none, none, some none, some none, some none] [] rfl rfl ?_
        exact wk_J8_balanceDeletion_b142 C Rr N k0 _ _ _ _ _ _ _ w
  · have w := w.1 u331
    refine g_aload_n 111 rfl C dJ8_balanceDeletion_110 rfl ?_
    refine g_astore_n 112 rfl C dJ8_balanceDeletion_111 (by decide) (rfl : _ = [some (vR [7] _), some (vR [7] _), some (vR [7] _), none, some (vR [7] _), none, none]) ?_
    refine g_goto 0 C dJ8_balanceDeletion_112 rfl ?_
    refine g_sub [some none, some none, none, none, none, none, none] [] rfl rfl ?_
    exact k0 _ _ _ w
def wp_J8_balanceDeletion_b103 (G0 : Hp → Option Nat → Option Nat → Prop) (K : Option Nat → Hp → Prop) (h : Hp) (l0 : Option Nat) (l1 : Option Nat) (l2 : Option Nat) (s0 : Option Nat) : Prop :=
  (wp_J8_balanceDeletion_b105 G0 K h l0 l1 l2 s0)
set_option maxHeartbeats 4000000 in
theorem wk_J8_balanceDeletion_b103 {X : Fx} {K : Option Nat → Hp → Prop} (C : Cx X cJ8_balanceDeletion yJ8_balanceDeletion.cls 7 3) (Rr : Rx X (Option.some (Jvm.ClassFile.FieldType.object "java/util/HashMap$TreeNode")) (pR [7] K)) (N : Nm X yJ8_balanceDeletion.name) {G0 : Hp → Option Nat → Option Nat → Prop} (k0 : ∀ (h : Hp) (l0 : Option Nat) (l1 : Option Nat), G0 h l0 l1 → Gd X h 0 [some (vR [7] l0), some (vR [7] l1), none, none, none, none, none] []) (h : Hp) (l0 : Option Nat) (l1 : Option Nat) (l2 : Option Nat) (s0 : Option Nat) (w : wp_J8_balanceDeletion_b103 G0 K h l0 l1 l2 s0) : Gd X h 103 [some (vR [7] l0), some (vR [7] l1), some (vR [7] l2), none, none, none, none] [vR [7] s0] := by
  unfold wp_J8_balanceDeletion_b103 at w
  refine g_astore 105 rfl C dJ8_balanceDeletion_103 (by decide) (rfl : _ = [some (vR [7] _), some (vR [7] _), some (vR [7] _), none, some (vR [7] _), none, none]) ?_
  refine g_sub [some none, some none, some none, none, some none, none, none] [] rfl rfl ?_
  exact wk_J8_balanceDeletion_b105 C Rr N k0 _ _ _ _ _ w
def wp_J8_balanceDeletion_b489 (G0 : Hp → Option Nat → Option Nat → Prop) (K : Option Nat → Hp → Prop) (h : Hp) (l0 : Option Nat) (l1 : Option Nat) : Prop :=
  (G0 h l0 l1)
set_option maxHeartbeats 4000000 in
theorem wk_J8_balanceDeletion_b489 {X : Fx} {K : Option Nat → Hp → Prop} (C : Cx X cJ8_balanceDeletion yJ8_balanceDeletion.cls 7 3) (Rr : Rx X (Option.some (Jvm.ClassFile.FieldType.object "java/util/HashMap$TreeNode")) (pR [7] K)) (N : Nm X yJ8_balanceDeletion.name) {G0 : Hp → Option Nat → Option Nat → Prop} (k0 : ∀ (h : Hp) (l0 : Option Nat) (l1 : Option Nat), G0 h l0 l1 → Gd X h 0 [some (vR [7] l0), some (vR [7] l1), none, none, none, none, none] []) (h : Hp) (l0 : Option Nat) (l1 : Option Nat) (w : wp_J8_balanceDeletion_b489 G0 K h l0 l1) : Gd X h 489 [some (vR [7] l0), some (vR [7] l1), none, none, none, none, none] [] := by
  unfold wp_J8_balanceDeletion_b489 at w
  refine g_goto 0 C dJ8_balanceDeletion_489 rfl ?_
  refine g_sub [some none, some none, none, none, none, none, none] [] rfl rfl ?_
  exact k0 _ _ _ w
def wp_J8_balanceDeletion_b373 (G0 : Hp → Option Nat → Option Nat → Prop) (K : Option Nat → Hp → Prop) (h : Hp) (l0 : Option Nat) (l2 : Option Nat) (l3 : Option Nat) : Prop :=
  (∃ a358, l3 = some a358 ∧ (∀ h360, h360 = wI h 10 a358 1 → (wp_J8_balanceDeletion_b489 G0 K h360 l0 l2)))
set_option maxHeartbeats 4000000 in
theorem wk_J8_balanceDeletion_b373 {X : Fx} {K : Option Nat → Hp → Prop} (C : Cx X cJ8_balanceDeletion yJ8_balanceDeletion.cls 7 3) (Rr : Rx X (Option.some (Jvm.ClassFile.FieldType.object "java/util/HashMap$TreeNode")) (pR [7] K)) (N : Nm X yJ8_balanceDeletion.name) {G0 : Hp → Option Nat → Option Nat → Prop} (k0 : ∀ (h : Hp) (l0 : Option Nat) (l1 : Option Nat), G0 h l0 l1 → Gd X h 0 [some (vR [7] l0), some (vR [7] l1), none, none, none, none, none] []) (h : Hp) (l0 : Option Nat) (l2 : Option Nat) (l3 : Option Nat) (w : wp_J8_balanceDeletion_b373 G0 K h l0 l2 l3) : Gd X h 373 [some (vR [7] l0), none, some (vR [7] l2), some (vR [7] l3), none, none, none] [] := by
  unfold wp_J8_balanceDeletion_b373 at w
  refine g_aload_n 374 rfl C dJ8_balanceDeletion_373 rfl ?_
  refine g_iconst 375 rfl C dJ8_balanceDeletion_374 1 rfl ?_
  obtain ⟨a358, e359, w⟩ := w
  refine g_putZ 378 rfl C dJ8_balanceDeletion_375 fl_HashMap_TreeNode_93 rfl rfl (Or.inr rfl) e359 rfl ?_
  have w := w _ rfl
  refine g_aload_n 379 rfl C dJ8_balanceDeletion_378 rfl ?_
  refine g_astore_n 380 rfl C dJ8_balanceDeletion_379 (by decide) (rfl : _ = [some (vR [7] _), some (vR [7] _), some (vR [7] _), some (vR [7] _), none, none, none]) ?_
  refine g_goto 489 C dJ8_balanceDeletion_380 rfl ?_
  refine g_sub [some none, some none, none, none, none, none, none] [] rfl rfl ?_
  exact wk_J8_balanceDeletion_b489 C Rr N k0 _ _ _ w
def wp_J8_balanceDeletion_b487 (G0 : Hp → Option Nat → Option Nat → Prop) (K : Option Nat → Hp → Prop) (h : Hp) (l0 : Option Nat) : Prop :=
  (wp_J8_balanceDeletion_b489 G0 K h l0 l0)
set_option maxHeartbeats 4000000 in
theorem wk_J8_balanceDeletion_b487 {X : Fx} {K : Option Nat → Hp → Prop} (C : Cx X cJ8_balanceDeletion yJ8_balanceDeletion.cls 7 3) (Rr : Rx X (Option.some (Jvm.ClassFile.FieldType.object "java/util/HashMap$TreeNode")) (pR [7] K)) (N : Nm X yJ8_balanceDeletion.name) {G0 : Hp → Option Nat → Option Nat → Prop} (k0 : ∀ (h : Hp) (l0 : Option Nat) (l1 : Option Nat), G0 h l0 l1 → Gd X h 0 [some (vR [7] l0), some (vR [7] l1), none, none, none, none, none] []) (h : Hp) (l0 : Option Nat) (w : wp_J8_balanceDeletion_b487 G0 K h l0) : Gd X h 487 [some (vR [7] l0), none, none, none, none, none, none] [] := by
  unfold wp_J8_balanceDeletion_b487 at w
  refine g_aload_n 488 rfl C dJ8_balanceDeletion_487 rfl ?_
  refine g_astore_n 489 rfl C dJ8_balanceDeletion_488 (by decide) (rfl : _ = [some (vR [7] _), some (vR [7] _), none, none, none, none, none]) ?_
  refine g_sub [some none, some none, none, none, none, none, none] [] rfl rfl ?_
  exact wk_J8_balanceDeletion_b489 C Rr N k0 _ _ _ w
def wp_J8_balanceDeletion_b472 (G0 : Hp → Option Nat → Option Nat → Prop) (K : Option Nat → Hp → Prop) (h : Hp) (l0 : Option Nat) (l2 : Option Nat) : Prop :=
  ((l2 = none → (wp_J8_balanceDeletion_b487 G0 K h l0)) ∧ (∀ a312, l2 = some a312 → (∀ h313, h313 = wI h 10 a312 0 → (wp_J8_rotateRight h313 l0 l2 (fun r315 h316 => Ex h313 h316 → (wp_J8_balanceDeletion_b487 G0 K h316 r315))))))
set_option maxHeartbeats 4000000 in
theorem wk_J8_balanceDeletion_b472 {X : Fx} {K : Option Nat → Hp → Prop} (C : Cx X cJ8_balanceDeletion yJ8_balanceDeletion.cls 7 3) (Rr : Rx X (Option.some (Jvm.ClassFile.FieldType.object "java/util/HashMap$TreeNode")) (pR [7] K)) (N : Nm X yJ8_balanceDeletion.name) {G0 : Hp → Option Nat → Option Nat → Prop} (k0 : ∀ (h : Hp) (l0 : Option Nat) (l1 : Option Nat), G0 h l0 l1 → Gd X h 0 [some (vR [7] l0), some (vR [7] l1), none, none, none, none, none] []) (h : Hp) (l0 : Option Nat) (l2 : Option Nat) (w : wp_J8_balanceDeletion_b472 G0 K h l0 l2) : Gd X h 472 [some (vR [7] l0), none, some (vR [7] l2), none, none, none, none] [] := by
  unfold wp_J8_balanceDeletion_b472 at w
  refine g_aload_n 473 rfl C dJ8_balanceDeletion_472 rfl ?_
  refine g_ifnull 476 487 rfl C dJ8_balanceDeletion_473 rfl (fun u311 => ?_) (fun a312 u311 => ?_)
  · have w := w.1 u311
    refine g_sub [some none, none, none, none, none, none, none] [] rfl rfl ?_
    exact wk_J8_balanceDeletion_b487 C Rr N k0 _ _ w
  · have w := w.2 a312 u311
    refine g_aload_n 477 rfl C dJ8_balanceDeletion_476 rfl ?_
    refine g_iconst 478 rfl C dJ8_balanceDeletion_477 0 rfl ?_
    refine g_putZ 481 rfl C dJ8_balanceDeletion_478 fl_HashMap_TreeNode_93 rfl rfl (Or.inl rfl) u311 rfl ?_
    have w := w _ rfl
    refine g_aload_n 482 rfl C dJ8_balanceDeletion_481 rfl ?_
    refine g_aload_n 483 rfl C dJ8_balanceDeletion_482 rfl ?_
    refine g_callS (As := [vR [7] _, vR [7] _]) (st := []) 486 rfl C dJ8_balanceDeletion_483 q361 q362 q21 q363 okn_3b0f86 (by decide) (by decide) (Nat.le_of_ble_eq_true rfl) rfl (ct_J8_rotateRight C.glob w) (fun r0 h316 p317 x318 _ => ?_)
    obtain ⟨r315, rfl, w⟩ := p317
    have w := w x318
    change Gd _ _ _ _ (vR [7] r315 :: [])
    refine g_astore_n 487 rfl C dJ8_balanceDeletion_486 (by decide) (rfl : _ = [some (vR [7] _), none, some (vR [7] _), none, none, none, none]) ?_
    refine g_sub [some none, none, none, none, none, none, none] [] rfl rfl ?_
    exact wk_J8_balanceDeletion_b487 C Rr N k0 _ _ w
def wp_J8_balanceDeletion_b453 (G0 : Hp → Option Nat → Option Nat → Prop) (K : Option Nat → Hp → Prop) (h : Hp) (l0 : Option Nat) (l2 : Option Nat) (l3 : Option Nat) (s0 : Int32) (s1 : Option Nat) : Prop :=
  (∃ a277, s1 = some a277 ∧ ((s0 = 0 ∨ s0 = 1) ∧ (∀ h279, h279 = wI h 10 a277 s0 → (∃ a281, l3 = some a281 ∧ (((rf h279 7 a281) = none → (wp_J8_balanceDeletion_b472 G0 K h279 l0 l2)) ∧ (∀ a284, (rf h279 7 a281) = some a284 → (∀ h285, h285 = wI h279 10 a284 0 → (wp_J8_balanceDeletion_b472 G0 K h285 l0 l2))))))))
set_option maxHeartbeats 4000000 in
theorem wk_J8_balanceDeletion_b453 {X : Fx} {K : Option Nat → Hp → Prop} (C : Cx X cJ8_balanceDeletion yJ8_balanceDeletion.cls 7 3) (Rr : Rx X (Option.some (Jvm.ClassFile.FieldType.object "java/util/HashMap$TreeNode")) (pR [7] K)) (N : Nm X yJ8_balanceDeletion.name) {G0 : Hp → Option Nat → Option Nat → Prop} (k0 : ∀ (h : Hp) (l0 : Option Nat) (l1 : Option Nat), G0 h l0 l1 → Gd X h 0 [some (vR [7] l0), some (vR [7] l1), none, none, none, none, none] []) (h : Hp) (l0 : Option Nat) (l2 : Option Nat) (l3 : Option Nat) (s0 : Int32) (s1 : Option Nat) (w : wp_J8_balanceDeletion_b453 G0 K h l0 l2 l3 s0 s1) : Gd X h 453 [some (vR [7] l0), none, some (vR [7] l2), some (vR [7] l3), none, none, none] [vI s0, vR [7] s1] := by
  unfold wp_J8_balanceDeletion_b453 at w
  obtain ⟨a277, e278, w⟩ := w
  obtain ⟨z280, w⟩ := w
  refine g_putZ 456 rfl C dJ8_balanceDeletion_453 fl_HashMap_TreeNode_93 rfl rfl z280 e278 rfl ?_
  have w := w _ rfl
  refine g_aload_n 457 rfl C dJ8_balanceDeletion_456 rfl ?_
  obtain ⟨a281, e282, w⟩ := w
  refine g_getR 460 rfl C dJ8_balanceDeletion_457 fl_HashMap_TreeNode_39 rfl e282 rfl ?_
  refine g_dup 461 rfl C dJ8_balanceDeletion_460 rfl ?_
  refine g_astore 463 rfl C dJ8_balanceDeletion_461 (by decide) (rfl : _ = [some (vR [7] _), none, some (vR [7] _), some (vR [7] _), none, some (vR [7] _), none]) ?_
  refine g_ifnull 466 472 rfl C dJ8_balanceDeletion_463 rfl (fun u283 => ?_) (fun a284 u283 => ?_)
  · have w := w.1 u283
    refine g_sub [some none, none, some none, none, none, none, none] [] rfl rfl ?_
    exact wk_J8_balanceDeletion_b472 C Rr N k0 _ _ _ w
  · have w := w.2 a284 u283
    refine g_aload 468 rfl C dJ8_balanceDeletion_466 rfl ?_
    refine g_iconst 469 rfl C dJ8_balanceDeletion_468 0 rfl ?_
    refine g_putZ 472 rfl C dJ8_balanceDeletion_469 fl_HashMap_TreeNode_93 rfl rfl (Or.inl rfl) u283 rfl ?_
    have w := w _ rfl
    refine g_sub [some none, none, some none, none, none, none, none] [] rfl rfl ?_
    exact wk_J8_balanceDeletion_b472 C Rr N k0 _ _ _ w
def wp_J8_balanceDeletion_b436 (G0 : Hp → Option Nat → Option Nat → Prop) (K : Option Nat → Hp → Prop) (h : Hp) (l0 : Option Nat) (l2 : Option Nat) (l3 : Option Nat) : Prop :=
  ((l3 = none → (wp_J8_balanceDeletion_b472 G0 K h l0 l2)) ∧ (∀ a354, l3 = some a354 → ((l2 = none → (wp_J8_balanceDeletion_b453 G0 K h l0 l2 l3 0 l3)) ∧ (∀ a356, l2 = some a356 → ((it h 10 a356) = 0 ∨ (it h 10 a356) = 1 → (wp_J8_balanceDeletion_b453 G0 K h l0 l2 l3 (it h 10 a356) l3))))))
set_option maxHeartbeats 4000000 in
theorem wk_J8_balanceDeletion_b436 {X : Fx} {K : Option Nat → Hp → Prop} (C : Cx X cJ8_balanceDeletion yJ8_balanceDeletion.cls 7 3) (Rr : Rx X (Option.some (Jvm.ClassFile.FieldType.object "java/util/HashMap$TreeNode")) (pR [7] K)) (N : Nm X yJ8_balanceDeletion.name) {G0 : Hp → Option Nat → Option Nat → Prop} (k0 : ∀ (h : Hp) (l0 : Option Nat) (l1 : Option Nat), G0 h l0 l1 → Gd X h 0 [some (vR [7] l0), some (vR [7] l1), none, none, none, none, none] []) (h : Hp) (l0 : Option Nat) (l2 : Option Nat) (l3 : Option Nat) (w : wp_J8_balanceDeletion_b436 G0 K h l0 l2 l3) : Gd X h 436 [some (vR [7] l0), none, some (vR [7] l2), some (vR [7] l3), none, none, none] [] := by
  unfold wp_J8_balanceDeletion_b436 at w
  refine g_aload_n 437 rfl C dJ8_balanceDeletion_436 rfl ?_
  refine g_ifnull 440 472 rfl C dJ8_balanceDeletion_437 rfl (fun u353 => ?_) (fun a354 u353 => ?_)
  · have w := w.1 u353
    refine g_sub [some none, none, some none, none, none, none, none] [] rfl rfl ?_
    exact wk_J8_balanceDeletion_b472 C Rr N k0 _ _ _ w
  · have w := w.2 a354 u353
    refine g_aload_n 441 rfl C dJ8_balanceDeletion_440 rfl ?_
    refine g_aload_n 442 rfl C dJ8_balanceDeletion_441 rfl ?_
    refine g_ifnonnull 445 449 rfl C dJ8_balanceDeletion_442 rfl (fun a356 u355 => ?_) (fun u355 => ?_)
    · have w := w.2 a356 u355
      refine g_aload_n 450 rfl C dJ8_balanceDeletion_449 rfl ?_
      refine g_getZ 453 rfl C dJ8_balanceDeletion_450 fl_HashMap_TreeNode_93 rfl u355 rfl (fun z357 => ?_)
      have w := w z357
      refine g_sub [some none, none, some none, some none, none, none, none] [none, none] rfl rfl ?_
      exact wk_J8_balanceDeletion_b453 C Rr N k0 _ _ _ _ _ _ w
    · have w := w.1 u355
      refine g_iconst 446 rfl C dJ8_balanceDeletion_445 0 rfl ?_
      refine g_goto 453 C dJ8_balanceDeletion_446 rfl ?_
      refine g_sub [some none, none, some none, some none, none, none, none] [none, none] rfl rfl ?_
      exact wk_J8_balanceDeletion_b453 C Rr N k0 _ _ _ _ _ _ w
def wp_J8_balanceDeletion_b435 (G0 : Hp → Option Nat → Option Nat → Prop) (K : Option Nat → Hp → Prop) (h : Hp) (l0 : Option Nat) (l2 : Option Nat) (s0 : Option Nat) : Prop :=
  (wp_J8_balanceDeletion_b436 G0 K h l0 l2 s0)
set_option maxHeartbeats 4000000 in
theorem wk_J8_balanceDeletion_b435 {X : Fx} {K : Option Nat → Hp → Prop} (C : Cx X cJ8_balanceDeletion yJ8_balanceDeletion.cls 7 3) (Rr : Rx X (Option.some (Jvm.ClassFile.FieldType.object "java/util/HashMap$TreeNode")) (pR [7] K)) (N : Nm X yJ8_balanceDeletion.name) {G0 : Hp → Option Nat → Option Nat → Prop} (k0 : ∀ (h : Hp) (l0 : Option Nat) (l1 : Option Nat), G0 h l0 l1 → Gd X h 0 [some (vR [7] l0), some (vR [7] l1), none, none, none, none, none] []) (h : Hp) (l0 : Option Nat) (l2 : Option Nat) (s0 : Option Nat) (w : wp_J8_balanceDeletion_b435 G0 K h l0 l2 s0) : Gd X h 435 [some (vR [7] l0), none, some (vR [7] l2), none, none, none, none] [vR [7] s0] := by
  unfold wp_J8_balanceDeletion_b435 at w
  refine g_astore_n 436 rfl C dJ8_balanceDeletion_435 (by decide) (rfl : _ = [some (vR [7] _), none, some (vR [7] _), some (vR [7] _), none, none, none]) ?_
  refine g_sub [some none, none, some none, some none, none, none, none] [] rfl rfl ?_
  exact wk_J8_balanceDeletion_b436 C Rr N k0 _ _ _ _ w
def wp_J8_balanceDeletion_b407 (G0 : Hp → Option Nat → Option Nat → Prop) (K : Option Nat → Hp → Prop) (h : Hp) (l0 : Option Nat) (l1 : Option Nat) (l3 : Option Nat) : Prop :=
  (∃ a299, l3 = some a299 ∧ (∀ h301, h301 = wI h 10 a299 1 → (wp_J8_rotateLeft h301 l0 l3 (fun r303 h304 => Ex h301 h304 → (∃ a307, l1 = some a307 ∧ (((rf h304 6 a307) = none → (wp_J8_balanceDeletion_b435 G0 K h304 r303 (rf h304 6 a307) none)) ∧ (∀ a310, (rf h304 6 a307) = some a310 → (wp_J8_balanceDeletion_b435 G0 K h304 r303 (rf h304 6 a307) (rf h304 7 a310)))))))))
set_option maxHeartbeats 4000000 in
theorem wk_J8_balanceDeletion_b407 {X : Fx} {K : Option Nat → Hp → Prop} (C : Cx X cJ8_balanceDeletion yJ8_balanceDeletion.cls 7 3) (Rr : Rx X (Option.some (Jvm.ClassFile.FieldType.object "java/util/HashMap$TreeNode")) (pR [7] K)) (N : Nm X yJ8_balanceDeletion.name) {G0 : Hp → Option Nat → Option Nat → Prop} (k0 : ∀ (h : Hp) (l0 : Option Nat) (l1 : Option Nat), G0 h l0 l1 → Gd X h 0 [some (vR [7] l0), some (vR [7] l1), none, none, none, none, none] []) (h : Hp) (l0 : Option Nat) (l1 : Option Nat) (l3 : Option Nat) (w : wp_J8_balanceDeletion_b407 G0 K h l0 l1 l3) : Gd X h 407 [some (vR [7] l0), some (vR [7] l1), none, some (vR [7] l3), none, none, none] [] := by
  unfold wp_J8_balanceDeletion_b407 at w
  refine g_aload_n 408 rfl C dJ8_balanceDeletion_407 rfl ?_
  refine g_iconst 409 rfl C dJ8_balanceDeletion_408 1 rfl ?_
  obtain ⟨a299, e300, w⟩ := w
  refine g_putZ 412 rfl C dJ8_balanceDeletion_409 fl_HashMap_TreeNode_93 rfl rfl (Or.inr rfl) e300 rfl ?_
  have w := w _ rfl
  refine g_aload_n 413 rfl C dJ8_balanceDeletion_412 rfl ?_
  refine g_aload_n 414 rfl C dJ8_balanceDeletion_413 rfl ?_
  refine g_callS (As := [vR [7] _, vR [7] _]) (st := []) 417 rfl C dJ8_balanceDeletion_414 q358 q359 q21 q360 okn_1ce7d6 (by decide) (by decide) (Nat.le_of_ble_eq_true rfl) rfl (ct_J8_rotateLeft C.glob w) (fun r0 h304 p305 x306 _ => ?_)
  obtain ⟨r303, rfl, w⟩ := p305
  have w := w x306
  change Gd _ _ _ _ (vR [7] r303 :: [])
  refine g_astore_n 418 rfl C dJ8_balanceDeletion_417 (by decide) (rfl : _ = [some (vR [7] _), some (vR [7] _), none, some (vR [7] _), none, none, none]) ?_
  refine g_aload_n 419 rfl C dJ8_balanceDeletion_418 rfl ?_
  obtain ⟨a307, e308, w⟩ := w
  refine g_getR 422 rfl C dJ8_balanceDeletion_419 fl_HashMap_TreeNode_9 rfl e308 rfl ?_
  refine g_dup 423 rfl C dJ8_balanceDeletion_422 rfl ?_
  refine g_astore_n 424 rfl C dJ8_balanceDeletion_423 (by decide) (rfl : _ = [some (vR [7] _), some (vR [7] _), some (vR [7] _), some (vR [7] _), none, none, none]) ?_
  refine g_ifnonnull 427 431 rfl C dJ8_balanceDeletion_424 rfl (fun a310 u309 => ?_) (fun u309 => ?_)
  · have w := w.2 a310 u309
    refine g_aload_n 432 rfl C dJ8_balanceDeletion_431 rfl ?_
    refine g_getR 435 rfl C dJ8_balanceDeletion_432 fl_HashMap_TreeNode_39 rfl u309 rfl ?_
    refine g_sub [some none, none, some none, none, none, none, none] [none] rfl rfl ?_
    exact wk_J8_balanceDeletion_b435 C Rr N k0 _ _ _ _ w
  · have w := w.1 u309
    refine g_null 428 rfl C dJ8_balanceDeletion_427 ?_
    refine g_goto 435 C dJ8_balanceDeletion_428 rfl ?_
    refine g_sub [some none, none, some none, none, none, none, none] [some [7]] rfl rfl ?_
    exact wk_J8_balanceDeletion_b435 C Rr N k0 _ _ _ _ w
def wp_J8_balanceDeletion_b396 (G0 : Hp → Option Nat → Option Nat → Prop) (K : Option Nat → Hp → Prop) (h : Hp) (l0 : Option Nat) (l1 : Option Nat) (l3 : Option Nat) (l6 : Option Nat) : Prop :=
  ((l6 = none → (wp_J8_balanceDeletion_b407 G0 K h l0 l1 l3)) ∧ (∀ a293, l6 = some a293 → (∀ h294, h294 = wI h 10 a293 0 → (wp_J8_balanceDeletion_b407 G0 K h294 l0 l1 l3))))
set_option maxHeartbeats 4000000 in
theorem wk_J8_balanceDeletion_b396 {X : Fx} {K : Option Nat → Hp → Prop} (C : Cx X cJ8_balanceDeletion yJ8_balanceDeletion.cls 7 3) (Rr : Rx X (Option.some (Jvm.ClassFile.FieldType.object "java/util/HashMap$TreeNode")) (pR [7] K)) (N : Nm X yJ8_balanceDeletion.name) {G0 : Hp → Option Nat → Option Nat → Prop} (k0 : ∀ (h : Hp) (l0 : Option Nat) (l1 : Option Nat), G0 h l0 l1 → Gd X h 0 [some (vR [7] l0), some (vR [7] l1), none, none, none, none, none] []) (h : Hp) (l0 : Option Nat) (l1 : Option Nat) (l3 : Option Nat) (l6 : Option Nat) (w : wp_J8_balanceDeletion_b396 G0 K h l0 l1 l3 l6) : Gd X h 396 [some (vR [7] l0), some (vR [7] l1), none, some (vR [7] l3), none, none, some (vR [7] l6)] [] := by
  unfold wp_J8_balanceDeletion_b396 at w
  refine g_aload 398 rfl C dJ8_balanceDeletion_396 rfl ?_
  refine g_ifnull 401 407 rfl C dJ8_balanceDeletion_398 rfl (fun u292 => ?_) (fun a293 u292 => ?_)
  · have w := w.1 u292
    refine g_sub [some none, some none, none, some none, none, none, none] [] rfl rfl ?_
    exact wk_J8_balanceDeletion_b407 C Rr N k0 _ _ _ _ w
  · have w := w.2 a293 u292
    refine g_aload 403 rfl C dJ8_balanceDeletion_401 rfl ?_
    refine g_iconst 404 rfl C dJ8_balanceDeletion_403 0 rfl ?_
    refine g_putZ 407 rfl C dJ8_balanceDeletion_404 fl_HashMap_TreeNode_93 rfl rfl (Or.inl rfl) u292 rfl ?_
    have w := w _ rfl
    refine g_sub [some none, some none, none, some none, none, none, none] [] rfl rfl ?_
    exact wk_J8_balanceDeletion_b407 C Rr N k0 _ _ _ _ w
def wp_J8_balanceDeletion_b383 (G0 : Hp → Option Nat → Option Nat → Prop) (K : Option Nat → Hp → Prop) (h : Hp) (l0 : Option Nat) (l1 : Option Nat) (l2 : Option Nat) (l3 : Option Nat) (l5 : Option Nat) (l6 : Option Nat) : Prop :=
  ((l5 = none → (wp_J8_balanceDeletion_b396 G0 K h l0 l1 l3 l6)) ∧ (∀ a374, l5 = some a374 → ((it h 10 a374) = 0 ∨ (it h 10 a374) = 1 → ((¬ (it h 10 a374) = 0 → (wp_J8_balanceDeletion_b436 G0 K h l0 l2 l3)) ∧ ((it h 10 a374) = 0 → (wp_J8_balanceDeletion_b396 G0 K h l0 l1 l3 l6))))))
set_option maxHeartbeats 4000000 in
theorem wk_J8_balanceDeletion_b383 {X : Fx} {K : Option Nat → Hp → Prop} (C : Cx X cJ8_balanceDeletion yJ8_balanceDeletion.cls 7 3) (Rr : Rx X (Option.some (Jvm.ClassFile.FieldType.object "java/util/HashMap$TreeNode")) (pR [7] K)) (N : Nm X yJ8_balanceDeletion.name) {G0 : Hp → Option Nat → Option Nat → Prop} (k0 : ∀ (h : Hp) (l0 : Option Nat) (l1 : Option Nat), G0 h l0 l1 → Gd X h 0 [some (vR [7] l0), some (vR [7] l1), none, none, none, none, none] []) (h : Hp) (l0 : Option Nat) (l1 : Option Nat) (l2 : Option Nat) (l3 : Option Nat) (l5 : Option Nat) (l6 : Option Nat) (w : wp_J8_balanceDeletion_b383 G0 K h l0 l1 l2 l3 l5 l6) : Gd X h 383 [some (vR [7] l0), some (vR [7] l1), some (vR [7] l2), some (vR [7] l3), none, some (vR [7] l5), some (vR [7] l6)] [] := by
  unfold wp_J8_balanceDeletion_b383 at w
  refine g_aload 385 rfl C dJ8_balanceDeletion_383 rfl ?_
  refine g_ifnull 388 396 rfl C dJ8_balanceDeletion_385 rfl (fun u373 => ?_) (fun a374 u373 => ?_)
  · have w := w.1 u373
    refine g_sub [some none, some none, none, some none, none, none, some none] [] rfl rfl ?_
    exact wk_J8_balanceDeletion_b396 C Rr N k0 _ _ _ _ _ w
  · have w := w.2 a374 u373
    refine g_aload 390 rfl C dJ8_balanceDeletion_388 rfl ?_
    refine g_getZ 393 rfl C dJ8_balanceDeletion_390 fl_HashMap_TreeNode_93 rfl u373 rfl (fun z375 => ?_)
    have w := w z375
    refine g_if_ne 396 436 rfl C dJ8_balanceDeletion_393 rfl (fun u376 => ?_) (fun u376 => ?_)
    · have w := w.1 u376
      refine g_sub [some none, none, some none, some none, none, none, none] [] rfl rfl ?_
      exact wk_J8_balanceDeletion_b436 C Rr N k0 _ _ _ _ w
    · have w := w.2 u376
      refine g_sub [some none, some none, none, some none, none, none, some none] [] rfl rfl ?_
      exact wk_J8_balanceDeletion_b396 C Rr N k0 _ _ _ _ _ w
def wp_J8_balanceDeletion_b360 (G0 : Hp → Option Nat → Option Nat → Prop) (K : Option Nat → Hp → Prop) (h : Hp) (l0 : Option Nat) (l1 : Option Nat) (l2 : Option Nat) (l3 : Option Nat) (l5 : Option Nat) (l6 : Option Nat) : Prop :=
  ((l6 = none → (wp_J8_balanceDeletion_b373 G0 K h l0 l2 l3)) ∧ (∀ a338, l6 = some a338 → ((it h 10 a338) = 0 ∨ (it h 10 a338) = 1 → ((¬ (it h 10 a338) = 0 → (wp_J8_balanceDeletion_b383 G0 K h l0 l1 l2 l3 l5 l6)) ∧ ((it h 10 a338) = 0 → (wp_J8_balanceDeletion_b373 G0 K h l0 l2 l3))))))
set_option maxHeartbeats 4000000 in
theorem wk_J8_balanceDeletion_b360 {X : Fx} {K : Option Nat → Hp → Prop} (C : Cx X cJ8_balanceDeletion yJ8_balanceDeletion.cls 7 3) (Rr : Rx X (Option.some (Jvm.ClassFile.FieldType.object "java/util/HashMap$TreeNode")) (pR [7] K)) (N : Nm X yJ8_balanceDeletion.name) {G0 : Hp → Option Nat → Option Nat → Prop} (k0 : ∀ (h : Hp) (l0 : Option Nat) (l1 : Option Nat), G0 h l0 l1 → Gd X h 0 [some (vR [7] l0), some (vR [7] l1), none, none, none, none, none] []) (h : Hp) (l0 : Option Nat) (l1 : Option Nat) (l2 : Option Nat) (l3 : Option Nat) (l5 : Option Nat) (l6 : Option Nat) (w : wp_J8_balanceDeletion_b360 G0 K h l0 l1 l2 l3 l5 l6) : Gd X h 360 [some (vR [7] l0), some (vR [7] l1), some (vR [7] l2), some (vR [7] l3), none, some (vR [7] l5), some (vR [7] l6)] [] := by
  unfold wp_J8_balanceDeletion_b360 at w
  refine g_aload 362 rfl C dJ8_balanceDeletion_360 rfl ?_
  refine g_ifnull 365 373 rfl C dJ8_balanceDeletion_362 rfl (fun u337 => ?_) (fun a338 u337 => ?_)
  · have w := w.1 u337
    refine g_sub [some none, none, some none, some none, none, none, none] [] rfl rfl ?_
    exact wk_J8_balanceDeletion_b373 C Rr N k0 _ _ _ _ w
  · have w := w.2 a338 u337
    refine g_aload 367 rfl C dJ8_balanceDeletion_365 rfl ?_
    refine g_getZ 370 rfl C dJ8_balanceDeletion_367 fl_HashMap_TreeNode_93 rfl u337 rfl (fun z339 => ?_)
    have w := w z339
    refine g_if_ne 373 383 rfl C dJ8_balanceDeletion_370 rfl (fun u340 => ?_) (fun u340 => ?_)
    · have w := w.1 u340
      refine g_sub [some none, some none, some none, some none, none, some none, some none] [] rfl rfl ?_
      exact wk_J8_balanceDeletion_b383 C Rr N k0 _ _ _ _ _ _ _ w
    · have w := w.2 u340
      refine g_sub [some none, none, some none, some none, none, none, none] [] rfl rfl ?_
      exact wk_J8_balanceDeletion_b373 C Rr N k0 _ _ _ _ w
def wp_J8_balanceDeletion_b326 (G0 : Hp → Option Nat → Option Nat → Prop) (K : Option Nat → Hp → Prop) (h : Hp) (l0 : Option Nat) (l1 : Option Nat) (l2 : Option Nat) (l3 : Option Nat) : Prop :=
  ((l3 = none → (G0 h l0 l2)) ∧ (∀ a287, l3 = some a287 → (((rf h 7 a287) = none → (wp_J8_balanceDeletion_b360 G0 K h l0 l1 l2 l3 (rf h 7 a287) (rf h 8 a287))) ∧ (∀ a289, (rf h 7 a287) = some a289 → ((it h 10 a289) = 0 ∨ (it h 10 a289) = 1 → ((¬ (it h 10 a289) = 0 → (wp_J8_balanceDeletion_b383 G0 K h l0 l1 l2 l3 (rf h 7 a287) (rf h 8 a287))) ∧ ((it h 10 a289) = 0 → (wp_J8_balanceDeletion_b360 G0 K h l0 l1 l2 l3 (rf h 7 a287) (rf h 8 a287)))))))))
set_option maxHeartbeats 4000000 in
theorem wk_J8_balanceDeletion_b326 {X : Fx} {K : Option Nat → Hp → Prop} (C : Cx X cJ8_balanceDeletion yJ8_balanceDeletion.cls 7 3) (Rr : Rx X (Option.some (Jvm.ClassFile.FieldType.object "java/util/HashMap$TreeNode")) (pR [7] K)) (N : Nm X yJ8_balanceDeletion.name) {G0 : Hp → Option Nat → Option Nat → Prop} (k0 : ∀ (h : Hp) (l0 : Option Nat) (l1 : Option Nat), G0 h l0 l1 → Gd X h 0 [some (vR [7] l0), some (vR [7] l1), none, none, none, none, none] []) (h : Hp) (l0 : Option Nat) (l1 : Option Nat) (l2 : Option Nat) (l3 : Option Nat) (w : wp_J8_balanceDeletion_b326 G0 K h l0 l1 l2 l3) : Gd X h 326 [some (vR [7] l0), some (vR [7] l1), some (vR [7] l2), some (vR [7] l3), none, none, none] [] := by
  unfold wp_J8_balanceDeletion_b326 at w
  refine g_aload_n 327 rfl C dJ8_balanceDeletion_326 rfl ?_
  refine g_ifnonnull 330 335 rfl C dJ8_balanceDeletion_327 rfl (fun a287 u286 => ?_) (fun u286 => ?_)
  · have w := w.2 a287 u286
    refine g_aload_n 336 rfl C dJ8_balanceDeletion_335 rfl ?_
    refine g_getR 339 rfl C dJ8_balanceDeletion_336 fl_HashMap_TreeNode_39 rfl u286 rfl ?_
    refine g_astore 341 rfl C dJ8_balanceDeletion_339 (by decide) (rfl : _ = [some (vR [7] _), some (vR [7] _), some (vR [7] _), some (vR [7] _), none, some (vR [7] _), none]) ?_
    refine g_aload_n 342 rfl C dJ8_balanceDeletion_341 rfl ?_
    refine g_getR 345 rfl C dJ8_balanceDeletion_342 fl_HashMap_TreeNode_42 rfl u286 rfl ?_
    refine g_astore 347 rfl C dJ8_balanceDeletion_345 (by decide) (rfl : _ = [some (vR [7] _), some (vR [7] _), some (vR [7] _), some (vR [7] _), none, some (vR [7] _), some (vR [7] _)]) ?_
    refine g_aload 349 rfl C dJ8_balanceDeletion_347 rfl ?_
    refine g_ifnull 352 360 rfl C dJ8_balanceDeletion_349 rfl (fun u288 => ?_) (fun a289 u288 => ?_)
    · have w := w.1 u288
      refine g_sub [some none, some none, some none, some none, none, some none, some none] [] rfl rfl ?_
      exact wk_J8_balanceDeletion_b360 C Rr N k0 _ _ _ _ _ _ _ w
    · have w := w.2 a289 u288
      refine g_aload 354 rfl C dJ8_balanceDeletion_352 rfl ?_
      refine g_getZ 357 rfl C dJ8_balanceDeletion_354 fl_HashMap_TreeNode_93 rfl u288 rfl (fun z290 => ?_)
      have w := w z290
      refine g_if_ne 360 383 rfl C dJ8_balanceDeletion_357 rfl (fun u291 => ?_) (fun u291 => ?_)
      · have w := w.1 u291
        refine g_sub [some none, some none, some none, some none, none, some none, some none] [] rfl rfl ?_
        exact wk_J8_balanceDeletion_b383 C Rr N k0 _ _ _ _ _ _ _ w
      · have w := w.2 u291
        refine g_sub [some none, some none, some none, some none, none, some none, some none] [] rfl rfl ?_
        exact wk_J8_balanceDeletion_b360 C Rr N k0 _ _ _ _ _ _ _ w
  · have w := w.1 u286
    refine g_aload_n 331 rfl C dJ8_balanceDeletion_330 rfl ?_
    refine g_astore_n 332 rfl C dJ8_balanceDeletion_331 (by decide) (rfl : _ = [some (vR [7] _), some (vR [7] _), some (vR [7] _), some (vR [7] _), none, none, none]) ?_
    refine g_goto 0 C dJ8_balanceDeletion_332 rfl ?_
    refine g_sub [some none, some none, none, none, none, none, none] [] rfl rfl ?_
    exact k0 _ _ _ w
def wp_J8_balanceDeletion_b325 (G0 : Hp → Option Nat → Option Nat → Prop) (K : Option Nat → Hp → Prop) (h : Hp) (l0 : Option Nat) (l1 : Option Nat) (l2 : Option Nat) (s0 : Option Nat) : Prop :=
  (wp_J8_balanceDeletion_b326 G0 K h l0 l1 l2 s0)
set_option maxHeartbeats 4000000 in
theorem wk_J8_balanceDeletion_b325 {X : Fx} {K : Option Nat → Hp → Prop} (C : Cx X cJ8_balanceDeletion yJ8_balanceDeletion.cls 7 3) (Rr : Rx X (Option.some (Jvm.ClassFile.FieldType.object "java/util/HashMap$TreeNode")) (pR [7] K)) (N : Nm X yJ8_balanceDeletion.name) {G0 : Hp → Option Nat → Option Nat → Prop} (k0 : ∀ (h : Hp) (l0 : Option Nat) (l1 : Option Nat), G0 h l0 l1 → Gd X h 0 [some (vR [7] l0), some (vR [7] l1), none, none, none, none, none] []) (h : Hp) (l0 : Option Nat) (l1 : Option Nat) (l2 : Option Nat) (s0 : Option Nat) (w : wp_J8_balanceDeletion_b325 G0 K h l0 l1 l2 s0) : Gd X h 325 [some (vR [7] l0), some (vR [7] l1), some (vR [7] l2), none, none, none, none] [vR [7] s0] := by
  unfold wp_J8_balanceDeletion_b325 at w
  refine g_astore_n 326 rfl C dJ8_balanceDeletion_325 (by decide) (rfl : _ = [some (vR [7] _), some (vR [7] _), some (vR [7] _), some (vR [7] _), none, none, none]) ?_
  refine g_sub [some none, some none, some none, some none, none, none, none] [] rfl rfl ?_
  exact wk_J8_balanceDeletion_b326 C Rr N k0 _ _ _ _ _ w
def wp_J8_balanceDeletion_b0 (K : Option Nat → Hp → Prop) : Nat → Hp → Option Nat → Option Nat → Prop
  | 0 => fun _ _ _ => False
  | m9 + 1 => fun h l0 l1 =>
    ((l1 = none → (wp_J8_balanceDeletion_b9 K h l0)) ∧ (∀ a234, l1 = some a234 → ((¬ l1 = l0 → (((rf h 6 a234) = none → (∀ h238, h238 = wI h 10 a234 0 → (K l1 h238))) ∧ (∀ a237, (rf h 6 a234) = some a237 → ((it h 10 a234) = 0 ∨ (it h 10 a234) = 1 → (((it h 10 a234) = 0 → ((¬ (rf h 7 a237) = l1 → (((rf h 7 a237) = none → (wp_J8_balanceDeletion_b326 (wp_J8_balanceDeletion_b0 K m9) K h l0 l1 (rf h 6 a234) (rf h 7 a237))) ∧ (∀ a243, (rf h 7 a237) = some a243 → ((it h 10 a243) = 0 ∨ (it h 10 a243) = 1 → (((it h 10 a243) = 0 → (wp_J8_balanceDeletion_b326 (wp_J8_balanceDeletion_b0 K m9) K h l0 l1 (rf h 6 a234) (rf h 7 a237))) ∧ (¬ (it h 10 a243) = 0 → (∀ h246, h246 = wI h 10 a243 0 → (∀ h247, h247 = wI h246 10 a237 1 → (wp_J8_rotateRight h247 l0 (rf h 6 a234) (fun r249 h250 => Ex h247 h250 → (((rf h250 6 a234) = none → (wp_J8_balanceDeletion_b325 (wp_J8_balanceDeletion_b0 K m9) K h250 r249 l1 (rf h250 6 a234) none)) ∧ (∀ a254, (rf h250 6 a234) = some a254 → (wp_J8_balanceDeletion_b325 (wp_J8_balanceDeletion_b0 K m9) K h250 r249 l1 (rf h250 6 a234) (rf h250 7 a254)))))))))))))) ∧ ((rf h 7 a237) = l1 → (((rf h 8 a237) = none → (wp_J8_balanceDeletion_b105 (wp_J8_balanceDeletion_b0 K m9) K h l0 l1 (rf h 6 a234) (rf h 8 a237))) ∧ (∀ a256, (rf h 8 a237) = some a256 → ((it h 10 a256) = 0 ∨ (it h 10 a256) = 1 → (((it h 10 a256) = 0 → (wp_J8_balanceDeletion_b105 (wp_J8_balanceDeletion_b0 K m9) K h l0 l1 (rf h 6 a234) (rf h 8 a237))) ∧ (¬ (it h 10 a256) = 0 → (∀ h259, h259 = wI h 10 a256 0 → (∀ h260, h260 = wI h259 10 a237 1 → (wp_J8_rotateLeft h260 l0 (rf h 6 a234) (fun r262 h263 => Ex h260 h263 → (((rf h263 6 a234) = none → (wp_J8_balanceDeletion_b103 (wp_J8_balanceDeletion_b0 K m9) K h263 r262 l1 (rf h263 6 a234) none)) ∧ (∀ a267, (rf h263 6 a234) = some a267 → (wp_J8_balanceDeletion_b103 (wp_J8_balanceDeletion_b0 K m9) K h263 r262 l1 (rf h263 6 a234) (rf h263 8 a267)))))))))))))))) ∧ (¬ (it h 10 a234) = 0 → (∀ h268, h268 = wI h 10 a234 0 → (K l0 h268)))))))) ∧ (l1 = l0 → (wp_J8_balanceDeletion_b9 K h l0)))))
set_option maxHeartbeats 4000000 in
theorem wk_J8_balanceDeletion_b0 {X : Fx} {K : Option Nat → Hp → Prop} (C : Cx X cJ8_balanceDeletion yJ8_balanceDeletion.cls 7 3) (Rr : Rx X (Option.some (Jvm.ClassFile.FieldType.object "java/util/HashMap$TreeNode")) (pR [7] K)) (N : Nm X yJ8_balanceDeletion.name) : ∀ (n : Nat) (h : Hp) (l0 : Option Nat) (l1 : Option Nat), wp_J8_balanceDeletion_b0 K n h l0 l1 → Gd X h 0 [some (vR [7] l0), some (vR [7] l1), none, none, none, none, none] [] := by
  intro n
  induction n with
  | zero => intro h l0 l1 w; exact w.elim
  | succ n ih =>
    intro h l0 l1 w
    unfold wp_J8_balanceDeletion_b0 at w
    refine g_aload_n 1 rfl C dJ8_balanceDeletion_0 rfl ?_
    refine g_ifnull 4 9 rfl C dJ8_balanceDeletion_1 rfl (fun u233 => ?_) (fun a234 u233 => ?_)
    · have w := w.1 u233
      refine g_sub [some none, none, none, none, none, none, none] [] rfl rfl ?_
      exact wk_J8_balanceDeletion_b9 C Rr N _ _ w
    · have w := w.2 a234 u233
      refine g_aload_n 5 rfl C dJ8_balanceDeletion_4 rfl ?_
      refine g_aload_n 6 rfl C dJ8_balanceDeletion_5 rfl ?_
      refine g_acmp_ne 9 11 rfl C dJ8_balanceDeletion_6 rfl (fun u235 => ?_) (fun u235 => ?_)
      · have w := w.1 u235
        refine g_aload_n 12 rfl C dJ8_balanceDeletion_11 rfl ?_
        refine g_getR 15 rfl C dJ8_balanceDeletion_12 fl_HashMap_TreeNode_9 rfl u233 rfl ?_
        refine g_dup 16 rfl C dJ8_balanceDeletion_15 rfl ?_
        refine g_astore_n 17 rfl C dJ8_balanceDeletion_16 (by decide) (rfl : _ = [some (vR [7] _), some (vR [7] _), some (vR [7] _), none, none, none, none]) ?_
        refine g_ifnonnull 20 27 rfl C dJ8_balanceDeletion_17 rfl (fun a237 u236 => ?_) (fun u236 => ?_)
        · have w := w.2 a237 u236
          refine g_aload_n 28 rfl C dJ8_balanceDeletion_27 rfl ?_
          refine g_getZ 31 rfl C dJ8_balanceDeletion_28 fl_HashMap_TreeNode_93 rfl u233 rfl (fun z239 => ?_)
          have w := w z239
          refine g_if_eq 34 41 rfl C dJ8_balanceDeletion_31 rfl (fun u240 => ?_) (fun u240 => ?_)
          · have w := w.1 u240
            refine g_aload_n 42 rfl C dJ8_balanceDeletion_41 rfl ?_
            refine g_getR 45 rfl C dJ8_balanceDeletion_42 fl_HashMap_TreeNode_39 rfl u236 rfl ?_
            refine g_dup 46 rfl C dJ8_balanceDeletion_45 rfl ?_
            refine g_astore_n 47 rfl C dJ8_balanceDeletion_46 (by decide) (rfl : _ = [some (vR [7] _), some (vR [7] _), some (vR [7] _), some (vR [7] _), none, none, none]) ?_
            refine g_aload_n 48 rfl C dJ8_balanceDeletion_47 rfl ?_
            refine g_acmp_ne 51 281 rfl C dJ8_balanceDeletion_48 rfl (fun u241 => ?_) (fun u241 => ?_)
            · have w := w.1 u241
              refine g_aload_n 282 rfl C dJ8_balanceDeletion_281 rfl ?_
              refine g_ifnull 285 326 rfl C dJ8_balanceDeletion_282 rfl (fun u242 => ?_) (fun a243 u242 => ?_)
              · have w := w.1 u242
                refine g_sub [some none, some none, some none, some none, none, none, none] [] rfl rfl ?_
                exact wk_J8_balanceDeletion_b326 C Rr N ih _ _ _ _ _ w
              · have w := w.2 a243 u242
                refine g_aload_n 286 rfl C dJ8_balanceDeletion_285 rfl ?_
                refine g_getZ 289 rfl C dJ8_balanceDeletion_286 fl_HashMap_TreeNode_93 rfl u242 rfl (fun z244 => ?_)
                have w := w z244
                refine g_if_eq 292 326 rfl C dJ8_balanceDeletion_289 rfl (fun u245 => ?_) (fun u245 => ?_)
                · have w := w.1 u245
                  refine g_sub [some none, some none, some none, some none, none, none, none] [] rfl rfl ?_
                  exact wk_J8_balanceDeletion_b326 C Rr N ih _ _ _ _ _ w
                · have w := w.2 u245
                  refine g_aload_n 293 rfl C dJ8_balanceDeletion_292 rfl ?_
                  refine g_iconst 294 rfl C dJ8_balanceDeletion_293 0 rfl ?_
                  refine g_putZ 297 rfl C dJ8_balanceDeletion_294 fl_HashMap_TreeNode_93 rfl rfl (Or.inl rfl) u242 rfl ?_
                  have w := w _ rfl
                  refine g_aload_n 298 rfl C dJ8_balanceDeletion_297 rfl ?_
                  refine g_iconst 299 rfl C dJ8_balanceDeletion_298 1 rfl ?_
                  refine g_putZ 302 rfl C dJ8_balanceDeletion_299 fl_HashMap_TreeNode_93 rfl rfl (Or.inr rfl) u236 rfl ?_
                  have w := w _ rfl
                  refine g_aload_n 303 rfl C dJ8_balanceDeletion_302 rfl ?_
                  refine g_aload_n 304 rfl C dJ8_balanceDeletion_303 rfl ?_
                  refine g_callS (As := [vR [7] _, vR [7] _]) (st := []) 307 rfl C dJ8_balanceDeletion_304 q361 q362 q21 q363 okn_3b0f86 (by decide) (by decide) (Nat.le_of_ble_eq_true rfl) rfl (ct_J8_rotateRight C.glob w) (fun r0 h250 p251 x252 _ => ?_)
                  obtain ⟨r249, rfl, w⟩ := p251
                  have w := w x252
                  change Gd _ _ _ _ (vR [7] r249 :: [])
                  refine g_astore_n 308 rfl C dJ8_balanceDeletion_307 (by decide) (rfl : _ = [some (vR [7] _), some (vR [7] _), some (vR [7] _), some (vR [7] _), none, none, none]) ?_
                  refine g_aload_n 309 rfl C dJ8_balanceDeletion_308 rfl ?_
                  refine g_getR 312 rfl C dJ8_balanceDeletion_309 fl_HashMap_TreeNode_9 rfl u233 rfl ?_
                  refine g_dup 313 rfl C dJ8_balanceDeletion_312 rfl ?_
                  refine g_astore_n 314 rfl C dJ8_balanceDeletion_313 (by decide) (rfl : _ = [some (vR [7] _), some (vR [7] _), some (vR [7] _), some (vR [7] _), none, none, none]) ?_
                  refine g_ifnonnull 317 321 rfl C dJ8_balanceDeletion_314 rfl (fun a254 u253 => ?_) (fun u253 => ?_)
                  · have w := w.2 a254 u253
                    refine g_aload_n 322 rfl C dJ8_balanceDeletion_321 rfl ?_
                    refine g_getR 325 rfl C dJ8_balanceDeletion_322 fl_HashMap_TreeNode_39 rfl u253 rfl ?_
                    refine g_sub [some none, some none, some none, none, none, none, none] [none] rfl rfl ?_
                    exact wk_J8_balanceDeletion_b325 C Rr N ih _ _ _ _ _ w
                  · have w := w.1 u253
                    refine g_null 318 rfl C dJ8_balanceDeletion_317 ?_
                    refine g_goto 325 C dJ8_balanceDeletion_318 rfl ?_
                    refine g_sub [some none, some none, some none, none, none, none, none] [some [7]] rfl rfl ?_
                    exact wk_J8_balanceDeletion_b325 C Rr N ih _ _ _ _ _ w
            · have w := w.2 u241
              refine g_aload_n 52 rfl C dJ8_balanceDeletion_51 rfl ?_
              refine g_getR 55 rfl C dJ8_balanceDeletion_52 fl_HashMap_TreeNode_42 rfl u236 rfl ?_
              refine g_dup 56 rfl C dJ8_balanceDeletion_55 rfl ?_
              refine g_astore 58 rfl C dJ8_balanceDeletion_56 (by decide) (rfl : _ = [some (vR [7] _), some (vR [7] _), some (vR [7] _), some (vR [7] _), some (vR [7] _), none, none]) ?_
              refine g_ifnull 61 105 rfl C dJ8_balanceDeletion_58 rfl (fun u255 => ?_) (fun a256 u255 => ?_)
              · have w := w.1 u255
                refine g_sub [some none, some none, some none, none, some none, none, none] [] rfl rfl ?_
                exact wk_J8_balanceDeletion_b105 C Rr N ih _ _ _ _ _ w
              · have w := w.2 a256 u255
                refine g_aload 63 rfl C dJ8_balanceDeletion_61 rfl ?_
                refine g_getZ 66 rfl C dJ8_balanceDeletion_63 fl_HashMap_TreeNode_93 rfl u255 rfl (fun z257 => ?_)
                have w := w z257
                refine g_if_eq 69 105 rfl C dJ8_balanceDeletion_66 rfl (fun u258 => ?_) (fun u258 => ?_)
                · have w := w.1 u258
                  refine g_sub [some none, some none, some none, none, some none, none, none] [] rfl rfl ?_
                  exact wk_J8_balanceDeletion_b105 C Rr N ih _ _ _ _ _ w
                · have w := w.2 u258
                  refine g_aload 71 rfl C dJ8_balanceDeletion_69 rfl ?_
                  refine g_iconst 72 rfl C dJ8_balanceDeletion_71 0 rfl ?_
                  refine g_putZ 75 rfl C dJ8_balanceDeletion_72 fl_HashMap_TreeNode_93 rfl rfl (Or.inl rfl) u255 rfl ?_
                  have w := w _ rfl
                  refine g_aload_n 76 rfl C dJ8_balanceDeletion_75 rfl ?_
                  refine g_iconst 77 rfl C dJ8_balanceDeletion_76 1 rfl ?_
                  refine g_putZ 80 rfl C dJ8_balanceDeletion_77 fl_HashMap_TreeNode_93 rfl rfl (Or.inr rfl) u236 rfl ?_
                  have w := w _ rfl
                  refine g_aload_n 81 rfl C dJ8_balanceDeletion_80 rfl ?_
                  refine g_aload_n 82 rfl C dJ8_balanceDeletion_81 rfl ?_
                  refine g_callS (As := [vR [7] _, vR [7] _]) (st := []) 85 rfl C dJ8_balanceDeletion_82 q358 q359 q21 q360 okn_1ce7d6 (by decide) (by decide) (Nat.le_of_ble_eq_true rfl) rfl (ct_J8_rotateLeft C.glob w) (fun r0 h263 p264 x265 _ => ?_)
                  obtain ⟨r262, rfl, w⟩ := p264
                  have w := w x265
                  change Gd _ _ _ _ (vR [7] r262 :: [])
                  refine g_astore_n 86 rfl C dJ8_balanceDeletion_85 (by decide) (rfl : _ = [some (vR [7] _), some (vR [7] _), some (vR [7] _), some (vR [7] _), some (vR [7] _), none, none]) ?_
                  refine g_aload_n 87 rfl C dJ8_balanceDeletion_86 rfl ?_
                  refine g_getR 90 rfl C dJ8_balanceDeletion_87 fl_HashMap_TreeNode_9 rfl u233 rfl ?_
                  refine g_dup 91 rfl C dJ8_balanceDeletion_90 rfl ?_
                  refine g_astore_n 92 rfl C dJ8_balanceDeletion_91 (by decide) (rfl : _ = [some (vR [7] _), some (vR [7] _), some (vR [7] _), some (vR [7] _), some (vR [7] _), none, none]) ?_
                  refine g_ifnonnull 95 99 rfl C dJ8_balanceDeletion_92 rfl (fun a267 u266 => ?_) (fun u266 => ?_)
                  · have w := w.2 a267 u266
                    refine g_aload_n 100 rfl C dJ8_balanceDeletion_99 rfl ?_
                    refine g_getR 103 rfl C dJ8_balanceDeletion_100 fl_HashMap_TreeNode_42 rfl u266 rfl ?_
                    refine g_sub [some none, some none, some none, none, none, none, none] [none] rfl rfl ?_
                    exact wk_J8_balanceDeletion_b103 C Rr N ih _ _ _ _ _ w
                  · have w := w.1 u266
                    refine g_null 96 rfl C dJ8_balanceDeletion_95 ?_
                    refine g_goto 103 C dJ8_balanceDeletion_96 rfl ?_
                    refine g_sub [some none, some none, some none, none, none, none, none] [some [7]] rfl rfl ?_
                    exact wk_J8_balanceDeletion_b103 C Rr N ih _ _ _ _ _ w
          · have w := w.2 u240
            refine g_aload_n 35 rfl C dJ8_balanceDeletion_34 rfl ?_
            refine g_iconst 36 rfl C dJ8_balanceDeletion_35 0 rfl ?_
            refine g_putZ 39 rfl C dJ8_balanceDeletion_36 fl_HashMap_TreeNode_93 rfl rfl (Or.inl rfl) u233 rfl ?_
            have w := w _ rfl
            refine g_aload_n 40 rfl C dJ8_balanceDeletion_39 rfl ?_
            exact g_areturn [7] C Rr rfl dJ8_balanceDeletion_40 rfl ⟨_, rfl, w⟩
        · have w := w.1 u236
          refine g_aload_n 21 rfl C dJ8_balanceDeletion_20 rfl ?_
          refine g_iconst 22 rfl C dJ8_balanceDeletion_21 0 rfl ?_
          refine g_putZ 25 rfl C dJ8_balanceDeletion_22 fl_HashMap_TreeNode_93 rfl rfl (Or.inl rfl) u233 rfl ?_
          have w := w _ rfl
          refine g_aload_n 26 rfl C dJ8_balanceDeletion_25 rfl ?_
          exact g_areturn [7] C Rr rfl dJ8_balanceDeletion_26 rfl ⟨_, rfl, w⟩
      · have w := w.2 u235
        refine g_sub [some none, none, none, none, none, none, none] [] rfl rfl ?_
        exact wk_J8_balanceDeletion_b9 C Rr N _ _ w
def wp_J8_balanceDeletion (h : Hp) (x0 : Option Nat) (x1 : Option Nat) (K : Option Nat → Hp → Prop) : Prop :=
  (∃ n, wp_J8_balanceDeletion_b0 K n h x0 x1)
theorem wk_J8_balanceDeletion {X : Fx} {K : Option Nat → Hp → Prop} (C : Cx X cJ8_balanceDeletion yJ8_balanceDeletion.cls 7 3) (Rr : Rx X (Option.some (Jvm.ClassFile.FieldType.object "java/util/HashMap$TreeNode")) (pR [7] K)) (N : Nm X yJ8_balanceDeletion.name) (h : Hp) (x0 : Option Nat) (x1 : Option Nat) (w : wp_J8_balanceDeletion h x0 x1 K) : Gd X h 0 [some (vR [7] x0), some (vR [7] x1), none, none, none, none, none] [] := by
  unfold wp_J8_balanceDeletion at w
  refine g_sub [some none, some none, none, none, none, none, none] [] rfl rfl ?_
  obtain ⟨n9, w⟩ := w
  exact wk_J8_balanceDeletion_b0 C Rr N n9 _ _ _ w
theorem ct_J8_balanceDeletion {E : Gx} (GE : Glob E) {h : Hp} {x0 : Option Nat} {x1 : Option Nat} {K : Option Nat → Hp → Prop} (w : wp_J8_balanceDeletion h x0 x1 K) : Ct E yJ8_balanceDeletion cJ8_balanceDeletion 7 (Option.some (Jvm.ClassFile.FieldType.object "java/util/HashMap$TreeNode")) 3 [vR [7] x0, vR [7] x1] h (pR [7] K) :=
  Ct.of GE (by decide +kernel) (by simp [lvA, t2]) rfl (fun X hX C Rr N => wk_J8_balanceDeletion C Rr N h x0 x1 w)
