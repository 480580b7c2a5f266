/-! WALKS (printed by emit.py): J8_removeTreeNode J1_removeNode J1_remove J1_remove_2 J1_containsValue J1_clear J13_init J1_keySet J10_getExponent J10_floorMod J10_min J15_remove J18_remove -/
set_option maxRecDepth 100000
def wp_J8_removeTreeNode_b12 (K : Hp → Prop) (h : Hp)  : Prop :=
  (K h)
set_option maxHeartbeats 4000000 in
theorem wk_J8_removeTreeNode_b12 {X : Fx} {K : Hp → Prop} (C : Cx X cJ8_removeTreeNode yJ8_removeTreeNode.cls 21 6) (Rr : Rx X (Option.none : Option Jvm.ClassFile.FieldType) (pV K)) (N : Nm X yJ8_removeTreeNode.name) (h : Hp)  (w : wp_J8_removeTreeNode_b12 K h ) : Gd X h 12 [none, none, none, none, none, none, none, none, none, none, none, none, none, none, none, none, none, none, none, none, none] [] := by
  unfold wp_J8_removeTreeNode_b12 at w
  exact g_vreturn C Rr dJ8_removeTreeNode_12 ⟨rfl, w⟩
def wp_J8_removeTreeNode_b145 (K : Hp → Prop) (h : Hp) (l1 : Option Nat) (l2 : Option Nat) (l5 : Int32) (l6 : Option Nat) : Prop :=
  (∃ a352, l6 = some a352 ∧ (wp_J8_untreeify h l6 l1 (fun r355 h356 => Ex h h356 → (∃ a359, l2 = some a359 ∧ (∃ j361, l5 = nI j361 ∧ j361 < ln h356 a359 ∧ ∀ h364, h364 = wR h356 (100 + j361) a359 r355 → (K h364))))))
set_option maxHeartbeats 4000000 in
theorem wk_J8_removeTreeNode_b145 {X : Fx} {K : Hp → Prop} (C : Cx X cJ8_removeTreeNode yJ8_removeTreeNode.cls 21 6) (Rr : Rx X (Option.none : Option Jvm.ClassFile.FieldType) (pV K)) (N : Nm X yJ8_removeTreeNode.name) (h : Hp) (l1 : Option Nat) (l2 : Option Nat) (l5 : Int32) (l6 : Option Nat) (w : wp_J8_removeTreeNode_b145 K h l1 l2 l5 l6) : Gd X h 145 [none, some (vR [2, 3] l1), some (vR [51] l2), none, none, some (vI l5), some (vR [7] l6), none, none, none, none, none, none, none, none, none, none, none, none, none, none] [] := by
  unfold wp_J8_removeTreeNode_b145 at w
  refine g_aload_n 146 rfl C dJ8_removeTreeNode_145 rfl ?_
  refine g_iload 148 rfl C dJ8_removeTreeNode_146 rfl ?_
  refine g_aload 150 rfl C dJ8_removeTreeNode_148 rfl ?_
  refine g_aload_n 151 rfl C dJ8_removeTreeNode_150 rfl ?_
  obtain ⟨a352, e353, w⟩ := w
  refine g_callV (As := [vR [2, 3] _]) (T := [7]) (st := [vI _, vR [51] _]) "java/util/HashMap$TreeNode" 154 rfl C dJ8_removeTreeNode_151 q228 q229 q230 q21 q231 rfl okn_21073d (by decide) (by decide) (Nat.le_of_ble_eq_true rfl) e353 (fun q => tC rfl q) rfl (ct_J8_untreeify C.glob w) (fun r0 h356 p357 x358 _ => ?_)
  obtain ⟨r355, rfl, w⟩ := p357
  have w := w x358
  change Gd _ _ _ _ (vR [5, 6, 7] r355 :: [vI _, vR [51] _])
  obtain ⟨a359, e360, w⟩ := w
  obtain ⟨j361, e362, e363, w⟩ := w
  refine g_aastore 51 155 rfl C dJ8_removeTreeNode_154 (by decide) rfl e360 e362 e363 ?_
  have w := w _ rfl
  exact g_vreturn C Rr dJ8_removeTreeNode_155 ⟨rfl, w⟩
def wp_J8_removeTreeNode_b636 (K : Hp → Prop) (h : Hp)  : Prop :=
  (K h)
set_option maxHeartbeats 4000000 in
theorem wk_J8_removeTreeNode_b636 {X : Fx} {K : Hp → Prop} (C : Cx X cJ8_removeTreeNode yJ8_removeTreeNode.cls 21 6) (Rr : Rx X (Option.none : Option Jvm.ClassFile.FieldType) (pV K)) (N : Nm X yJ8_removeTreeNode.name) (h : Hp)  (w : wp_J8_removeTreeNode_b636 K h ) : Gd X h 636 [none, none, none, none, none, none, none, none, none, none, none, none, none, none, none, none, none, none, none, none, none] [] := by
  unfold wp_J8_removeTreeNode_b636 at w
  exact g_vreturn C Rr dJ8_removeTreeNode_636 ⟨rfl, w⟩
def wp_J8_removeTreeNode_b626 (K : Hp → Prop) (h : Hp) (l2 : Option Nat) (l3 : Int32) (l15 : Option Nat) : Prop :=
  ((l3 = 0 → (wp_J8_removeTreeNode_b636 K h)) ∧ (¬ l3 = 0 → (wp_J8_moveRootToFront h l2 l15 (fun h415 => Ex h h415 → (wp_J8_removeTreeNode_b636 K h415)))))
set_option maxHeartbeats 4000000 in
theorem wk_J8_removeTreeNode_b626 {X : Fx} {K : Hp → Prop} (C : Cx X cJ8_removeTreeNode yJ8_removeTreeNode.cls 21 6) (Rr : Rx X (Option.none : Option Jvm.ClassFile.FieldType) (pV K)) (N : Nm X yJ8_removeTreeNode.name) (h : Hp) (l2 : Option Nat) (l3 : Int32) (l15 : Option Nat) (w : wp_J8_removeTreeNode_b626 K h l2 l3 l15) : Gd X h 626 [none, none, some (vR [51] l2), some (vI l3), none, none, none, none, none, none, none, none, none, none, none, some (vR [7] l15), none, none, none, none, none] [] := by
  unfold wp_J8_removeTreeNode_b626 at w
  refine g_iload_n 627 rfl C dJ8_removeTreeNode_626 rfl ?_
  refine g_if_eq 630 636 rfl C dJ8_removeTreeNode_627 rfl (fun u412 => ?_) (fun u412 => ?_)
  · have w := w.1 u412
    refine g_sub [none, none, none, none, none, none, none, none, none, none, none, none, none, none, none, none, none, none, none, none, none] [] rfl rfl ?_
    exact wk_J8_removeTreeNode_b636 C Rr N _ w
  · have w := w.2 u412
    refine g_aload_n 631 rfl C dJ8_removeTreeNode_630 rfl ?_
    refine g_aload 633 rfl C dJ8_removeTreeNode_631 rfl ?_
    refine g_callS (As := [vR [51] _, vR [7] _]) (st := []) 636 rfl C dJ8_removeTreeNode_633 q364 q365 q21 q366 okn_ba9dfb (by decide) (by decide) (Nat.le_of_ble_eq_true rfl) rfl (ct_J8_moveRootToFront C.glob w) (fun r0 h415 p416 x417 _ => ?_)
    obtain ⟨rfl, w⟩ := p416
    have w := w x417
    change Gd _ _ _ _ []
    refine g_sub [none, none, none, none, none, none, none, none, none, none, none, none, none, none, none, none, none, none, none, none, none] [] rfl rfl ?_
    exact wk_J8_removeTreeNode_b636 C Rr N _ w
def wp_J8_removeTreeNode_b564 (K : Hp → Prop) (h : Hp) (l2 : Option Nat) (l3 : Int32) (l11 : Option Nat) (l14 : Option Nat) (s0 : Option Nat) : Prop :=
  ((¬ l14 = l11 → (wp_J8_removeTreeNode_b626 K h l2 l3 s0)) ∧ (l14 = l11 → (∃ a419, l11 = some a419 ∧ (∀ h421, h421 = wR h 6 a419 none → (((rf h 6 a419) = none → (wp_J8_removeTreeNode_b626 K h421 l2 l3 s0)) ∧ (∀ a423, (rf h 6 a419) = some a423 → ((¬ l11 = (rf h421 7 a423) → ((¬ l11 = (rf h421 8 a423) → (wp_J8_removeTreeNode_b626 K h421 l2 l3 s0)) ∧ (l11 = (rf h421 8 a423) → (∀ h426, h426 = wR h421 8 a423 none → (wp_J8_removeTreeNode_b626 K h426 l2 l3 s0))))) ∧ (l11 = (rf h421 7 a423) → (∀ h427, h427 = wR h421 7 a423 none → (wp_J8_removeTreeNode_b626 K h427 l2 l3 s0))))))))))
set_option maxHeartbeats 4000000 in
theorem wk_J8_removeTreeNode_b564 {X : Fx} {K : Hp → Prop} (C : Cx X cJ8_removeTreeNode yJ8_removeTreeNode.cls 21 6) (Rr : Rx X (Option.none : Option Jvm.ClassFile.FieldType) (pV K)) (N : Nm X yJ8_removeTreeNode.name) (h : Hp) (l2 : Option Nat) (l3 : Int32) (l11 : Option Nat) (l14 : Option Nat) (s0 : Option Nat) (w : wp_J8_removeTreeNode_b564 K h l2 l3 l11 l14 s0) : Gd X h 564 [none, none, some (vR [51] l2), some (vI l3), none, none, none, none, none, none, none, some (vR [7] l11), none, none, some (vR [7] l14), none, none, none, none, none, none] [vR [7] s0] := by
  unfold wp_J8_removeTreeNode_b564 at w
  refine g_astore 566 rfl C dJ8_removeTreeNode_564 (by decide) (rfl : _ = [none, none, some (vR [51] _), some (vI _), none, none, none, none, none, none, none, some (vR [7] _), none, none, some (vR [7] _), some (vR [7] _), none, none, none, none, none]) ?_
  refine g_aload 568 rfl C dJ8_removeTreeNode_566 rfl ?_
  refine g_aload 570 rfl C dJ8_removeTreeNode_568 rfl ?_
  refine g_acmp_ne 573 626 rfl C dJ8_removeTreeNode_570 rfl (fun u418 => ?_) (fun u418 => ?_)
  · have w := w.1 u418
    refine g_sub [none, none, some none, some none, none, none, none, none, none, none, none, none, none, none, none, some none, none, none, none, none, none] [] rfl rfl ?_
    exact wk_J8_removeTreeNode_b626 C Rr N _ _ _ _ w
  · have w := w.2 u418
    refine g_aload 575 rfl C dJ8_removeTreeNode_573 rfl ?_
    obtain ⟨a419, e420, w⟩ := w
    refine g_getR 578 rfl C dJ8_removeTreeNode_575 fl_HashMap_TreeNode_9 rfl e420 rfl ?_
    refine g_astore 580 rfl C dJ8_removeTreeNode_578 (by decide) (rfl : _ = [none, none, some (vR [51] _), some (vI _), none, none, none, none, none, none, none, some (vR [7] _), none, none, some (vR [7] _), some (vR [7] _), some (vR [7] _), none, none, none, none]) ?_
    refine g_aload 582 rfl C dJ8_removeTreeNode_580 rfl ?_
    refine g_null 583 rfl C dJ8_removeTreeNode_582 ?_
    refine g_putR 586 rfl C dJ8_removeTreeNode_583 fl_HashMap_TreeNode_9 rfl rfl rfl e420 rfl ?_
    have w := w _ rfl
    refine g_aload 588 rfl C dJ8_removeTreeNode_586 rfl ?_
    refine g_ifnull 591 626 rfl C dJ8_removeTreeNode_588 rfl (fun u422 => ?_) (fun a423 u422 => ?_)
    · have w := w.1 u422
      refine g_sub [none, none, some none, some none, none, none, none, none, none, none, none, none, none, none, none, some none, none, none, none, none, none] [] rfl rfl ?_
      exact wk_J8_removeTreeNode_b626 C Rr N _ _ _ _ w
    · have w := w.2 a423 u422
      refine g_aload 593 rfl C dJ8_removeTreeNode_591 rfl ?_
      refine g_aload 595 rfl C dJ8_removeTreeNode_593 rfl ?_
      refine g_getR 598 rfl C dJ8_removeTreeNode_595 fl_HashMap_TreeNode_39 rfl u422 rfl ?_
      refine g_acmp_ne 601 610 rfl C dJ8_removeTreeNode_598 rfl (fun u424 => ?_) (fun u424 => ?_)
      · have w := w.1 u424
        refine g_aload 612 rfl C dJ8_removeTreeNode_610 rfl ?_
        refine g_aload 614 rfl C dJ8_removeTreeNode_612 rfl ?_
        refine g_getR 617 rfl C dJ8_removeTreeNode_614 fl_HashMap_TreeNode_42 rfl u422 rfl ?_
        refine g_acmp_ne 620 626 rfl C dJ8_removeTreeNode_617 rfl (fun u425 => ?_) (fun u425 => ?_)
        · have w := w.1 u425
          refine g_sub [none, none, some none, some none, none, none, none, none, none, none, none, none, none, none, none, some none, none, none, none, none, none] [] rfl rfl ?_
          exact wk_J8_removeTreeNode_b626 C Rr N _ _ _ _ w
        · have w := w.2 u425
          refine g_aload 622 rfl C dJ8_removeTreeNode_620 rfl ?_
          refine g_null 623 rfl C dJ8_removeTreeNode_622 ?_
          refine g_putR 626 rfl C dJ8_removeTreeNode_623 fl_HashMap_TreeNode_42 rfl rfl rfl u422 rfl ?_
          have w := w _ rfl
          refine g_sub [none, none, some none, some none, none, none, none, none, none, none, none, none, none, none, none, some none, none, none, none, none, none] [] rfl rfl ?_
          exact wk_J8_removeTreeNode_b626 C Rr N _ _ _ _ w
      · have w := w.2 u424
        refine g_aload 603 rfl C dJ8_removeTreeNode_601 rfl ?_
        refine g_null 604 rfl C dJ8_removeTreeNode_603 ?_
        refine g_putR 607 rfl C dJ8_removeTreeNode_604 fl_HashMap_TreeNode_39 rfl rfl rfl u422 rfl ?_
        have w := w _ rfl
        refine g_goto 626 C dJ8_removeTreeNode_607 rfl ?_
        refine g_sub [none, none, some none, some none, none, none, none, none, none, none, none, none, none, none, none, some none, none, none, none, none, none] [] rfl rfl ?_
        exact wk_J8_removeTreeNode_b626 C Rr N _ _ _ _ w
def wp_J8_removeTreeNode_b544 (K : Hp → Prop) (h : Hp) (l2 : Option Nat) (l3 : Int32) (l7 : Option Nat) (l11 : Option Nat) (l14 : Option Nat) : Prop :=
  (∃ a384, l11 = some a384 ∧ ((it h 10 a384) = 0 ∨ (it h 10 a384) = 1 → (((it h 10 a384) = 0 → (wp_J8_balanceDeletion h l7 l14 (fun r389 h390 => Ex h h390 → (wp_J8_removeTreeNode_b564 K h390 l2 l3 l11 l14 r389)))) ∧ (¬ (it h 10 a384) = 0 → (wp_J8_removeTreeNode_b564 K h l2 l3 l11 l14 l7)))))
set_option maxHeartbeats 4000000 in
theorem wk_J8_removeTreeNode_b544 {X : Fx} {K : Hp → Prop} (C : Cx X cJ8_removeTreeNode yJ8_removeTreeNode.cls 21 6) (Rr : Rx X (Option.none : Option Jvm.ClassFile.FieldType) (pV K)) (N : Nm X yJ8_removeTreeNode.name) (h : Hp) (l2 : Option Nat) (l3 : Int32) (l7 : Option Nat) (l11 : Option Nat) (l14 : Option Nat) (w : wp_J8_removeTreeNode_b544 K h l2 l3 l7 l11 l14) : Gd X h 544 [none, none, some (vR [51] l2), some (vI l3), none, none, none, some (vR [7] l7), none, none, none, some (vR [7] l11), none, none, some (vR [7] l14), none, none, none, none, none, none] [] := by
  unfold wp_J8_removeTreeNode_b544 at w
  refine g_aload 546 rfl C dJ8_removeTreeNode_544 rfl ?_
  obtain ⟨a384, e385, w⟩ := w
  refine g_getZ 549 rfl C dJ8_removeTreeNode_546 fl_HashMap_TreeNode_93 rfl e385 rfl (fun z386 => ?_)
  have w := w z386
  refine g_if_eq 552 557 rfl C dJ8_removeTreeNode_549 rfl (fun u387 => ?_) (fun u387 => ?_)
  · have w := w.1 u387
    refine g_aload 559 rfl C dJ8_removeTreeNode_557 rfl ?_
    refine g_aload 561 rfl C dJ8_removeTreeNode_559 rfl ?_
    refine g_callS (As := [vR [7] _, vR [7] _]) (st := []) 564 rfl C dJ8_removeTreeNode_561 q554 q555 q21 q556 okn_ae4be3 (by decide) (by decide) (Nat.le_of_ble_eq_true rfl) rfl (ct_J8_balanceDeletion C.glob w) (fun r0 h390 p391 x392 _ => ?_)
    obtain ⟨r389, rfl, w⟩ := p391
    have w := w x392
    change Gd _ _ _ _ (vR [7] r389 :: [])
    refine g_sub [none, none, some none, some none, none, none, none, none, none, none, none, some none, none, none, some none, none, none, none, none, none, none] [none] rfl rfl ?_
    exact wk_J8_removeTreeNode_b564 C Rr N _ _ _ _ _ _ w
  · have w := w.2 u387
    refine g_aload 554 rfl C dJ8_removeTreeNode_552 rfl ?_
    refine g_goto 564 C dJ8_removeTreeNode_554 rfl ?_
    refine g_sub [none, none, some none, some none, none, none, none, none, none, none, none, some none, none, none, some none, none, none, none, none, none, none] [none] rfl rfl ?_
    exact wk_J8_removeTreeNode_b564 C Rr N _ _ _ _ _ _ w
def wp_J8_removeTreeNode_b526 (K : Hp → Prop) (h : Hp) (l2 : Option Nat) (l3 : Int32) (l7 : Option Nat) (l11 : Option Nat) (l14 : Option Nat) : Prop :=
  (∃ a335, l11 = some a335 ∧ (∀ h337, h337 = wR h 6 a335 none → (∀ h338, h338 = wR h337 8 a335 none → (∀ h339, h339 = wR h338 7 a335 none → (wp_J8_removeTreeNode_b544 K h339 l2 l3 l7 l11 l14)))))
set_option maxHeartbeats 4000000 in
theorem wk_J8_removeTreeNode_b526 {X : Fx} {K : Hp → Prop} (C : Cx X cJ8_removeTreeNode yJ8_removeTreeNode.cls 21 6) (Rr : Rx X (Option.none : Option Jvm.ClassFile.FieldType) (pV K)) (N : Nm X yJ8_removeTreeNode.name) (h : Hp) (l2 : Option Nat) (l3 : Int32) (l7 : Option Nat) (l11 : Option Nat) (l14 : Option Nat) (w : wp_J8_removeTreeNode_b526 K h l2 l3 l7 l11 l14) : Gd X h 526 [none, none, some (vR [51] l2), some (vI l3), none, none, none, some (vR [7] l7), none, none, none, some (vR [7] l11), none, none, some (vR [7] l14), none, none, none, none, none, none] [] := by
  unfold wp_J8_removeTreeNode_b526 at w
  refine g_aload 528 rfl C dJ8_removeTreeNode_526 rfl ?_
  refine g_aload 530 rfl C dJ8_removeTreeNode_528 rfl ?_
  refine g_aload 532 rfl C dJ8_removeTreeNode_530 rfl ?_
  refine g_null 533 rfl C dJ8_removeTreeNode_532 ?_
  refine g_dup_x1 534 rfl C dJ8_removeTreeNode_533 rfl rfl ?_
  obtain ⟨a335, e336, w⟩ := w
  refine g_putR 537 rfl C dJ8_removeTreeNode_534 fl_HashMap_TreeNode_9 rfl rfl rfl e336 rfl ?_
  have w := w _ rfl
  refine g_dup_x1 538 rfl C dJ8_removeTreeNode_537 rfl rfl ?_
  refine g_putR 541 rfl C dJ8_removeTreeNode_538 fl_HashMap_TreeNode_42 rfl rfl rfl e336 rfl ?_
  have w := w _ rfl
  refine g_putR 544 rfl C dJ8_removeTreeNode_541 fl_HashMap_TreeNode_39 rfl rfl rfl e336 rfl ?_
  have w := w _ rfl
  refine g_sub [none, none, some none, some none, none, none, none, some none, none, none, none, some none, none, none, some none, none, none, none, none, none, none] [] rfl rfl ?_
  exact wk_J8_removeTreeNode_b544 C Rr N _ _ _ _ _ _ w
def wp_J8_removeTreeNode_b462 (K : Hp → Prop) (h : Hp) (l2 : Option Nat) (l3 : Int32) (l7 : Option Nat) (l11 : Option Nat) (l14 : Option Nat) : Prop :=
  ((l14 = l11 → (wp_J8_removeTreeNode_b544 K h l2 l3 l7 l11 l14)) ∧ (¬ l14 = l11 → (∃ a341, l11 = some a341 ∧ (∃ a343, l14 = some a343 ∧ (∀ h345, h345 = wR h 6 a343 (rf h 6 a341) → (((rf h 6 a341) = none → (∀ h348, h348 = wI h345 10 a343 0 → (wp_J8_removeTreeNode_b526 K h348 l2 l3 l14 l11 l14))) ∧ (∀ a347, (rf h 6 a341) = some a347 → ((¬ l11 = (rf h345 7 a347) → (∀ h350, h350 = wR h345 8 a347 l14 → (wp_J8_removeTreeNode_b526 K h350 l2 l3 l7 l11 l14))) ∧ (l11 = (rf h345 7 a347) → (∀ h351, h351 = wR h345 7 a347 l14 → (wp_J8_removeTreeNode_b526 K h351 l2 l3 l7 l11 l14)))))))))))
set_option maxHeartbeats 4000000 in
theorem wk_J8_removeTreeNode_b462 {X : Fx} {K : Hp → Prop} (C : Cx X cJ8_removeTreeNode yJ8_removeTreeNode.cls 21 6) (Rr : Rx X (Option.none : Option Jvm.ClassFile.FieldType) (pV K)) (N : Nm X yJ8_removeTreeNode.name) (h : Hp) (l2 : Option Nat) (l3 : Int32) (l7 : Option Nat) (l11 : Option Nat) (l14 : Option Nat) (w : wp_J8_removeTreeNode_b462 K h l2 l3 l7 l11 l14) : Gd X h 462 [none, none, some (vR [51] l2), some (vI l3), none, none, none, some (vR [7] l7), none, none, none, some (vR [7] l11), none, none, some (vR [7] l14), none, none, none, none, none, none] [] := by
  unfold wp_J8_removeTreeNode_b462 at w
  refine g_aload 464 rfl C dJ8_removeTreeNode_462 rfl ?_
  refine g_aload 466 rfl C dJ8_removeTreeNode_464 rfl ?_
  refine g_acmp_eq 469 544 rfl C dJ8_removeTreeNode_466 rfl (fun u340 => ?_) (fun u340 => ?_)
  · have w := w.1 u340
    refine g_sub [none, none, some none, some none, none, none, none, some none, none, none, none, some none, none, none, some none, none, none, none, none, none, none] [] rfl rfl ?_
    exact wk_J8_removeTreeNode_b544 C Rr N _ _ _ _ _ _ w
  · have w := w.2 u340
    refine g_aload 471 rfl C dJ8_removeTreeNode_469 rfl ?_
    refine g_aload 473 rfl C dJ8_removeTreeNode_471 rfl ?_
    obtain ⟨a341, e342, w⟩ := w
    refine g_getR 476 rfl C dJ8_removeTreeNode_473 fl_HashMap_TreeNode_9 rfl e342 rfl ?_
    refine g_dup_x1 477 rfl C dJ8_removeTreeNode_476 rfl rfl ?_
    obtain ⟨a343, e344, w⟩ := w
    refine g_putR 480 rfl C dJ8_removeTreeNode_477 fl_HashMap_TreeNode_9 rfl rfl rfl e344 rfl ?_
    have w := w _ rfl
    refine g_astore 482 rfl C dJ8_removeTreeNode_480 (by decide) (rfl : _ = [none, none, some (vR [51] _), some (vI _), none, none, none, some (vR [7] _), none, none, none, some (vR [7] _), none, none, some (vR [7] _), some (vR [7] _), none, none, none, none, none]) ?_
    refine g_aload 484 rfl C dJ8_removeTreeNode_482 rfl ?_
    refine g_ifnonnull 487 499 rfl C dJ8_removeTreeNode_484 rfl (fun a347 u346 => ?_) (fun u346 => ?_)
    · have w := w.2 a347 u346
      refine g_aload 501 rfl C dJ8_removeTreeNode_499 rfl ?_
      refine g_aload 503 rfl C dJ8_removeTreeNode_501 rfl ?_
      refine g_getR 506 rfl C dJ8_removeTreeNode_503 fl_HashMap_TreeNode_39 rfl u346 rfl ?_
      refine g_acmp_ne 509 519 rfl C dJ8_removeTreeNode_506 rfl (fun u349 => ?_) (fun u349 => ?_)
      · have w := w.1 u349
        refine g_aload 521 rfl C dJ8_removeTreeNode_519 rfl ?_
        refine g_aload 523 rfl C dJ8_removeTreeNode_521 rfl ?_
        refine g_putR 526 rfl C dJ8_removeTreeNode_523 fl_HashMap_TreeNode_42 rfl rfl rfl u346 rfl ?_
        have w := w _ rfl
        refine g_sub [none, none, some none, some none, none, none, none, some none, none, none, none, some none, none, none, some none, none, none, none, none, none, none] [] rfl rfl ?_
        exact wk_J8_removeTreeNode_b526 C Rr N _ _ _ _ _ _ w
      · have w := w.2 u349
        refine g_aload 511 rfl C dJ8_removeTreeNode_509 rfl ?_
        refine g_aload 513 rfl C dJ8_removeTreeNode_511 rfl ?_
        refine g_putR 516 rfl C dJ8_removeTreeNode_513 fl_HashMap_TreeNode_39 rfl rfl rfl u346 rfl ?_
        have w := w _ rfl
        refine g_goto 526 C dJ8_removeTreeNode_516 rfl ?_
        refine g_sub [none, none, some none, some none, none, none, none, some none, none, none, none, some none, none, none, some none, none, none, none, none, none, none] [] rfl rfl ?_
        exact wk_J8_removeTreeNode_b526 C Rr N _ _ _ _ _ _ w
    · have w := w.1 u346
      refine g_aload 489 rfl C dJ8_removeTreeNode_487 rfl ?_
      refine g_dup 490 rfl C dJ8_removeTreeNode_489 rfl ?_
      refine g_astore 492 rfl C dJ8_removeTreeNode_490 (by decide) (rfl : _ = [none, none, some (vR [51] _), some (vI _), none, none, none, some (vR [7] _), none, none, none, some (vR [7] _), none, none, some (vR [7] _), some (vR [7] _), none, none, none, none, none]) ?_
      refine g_iconst 493 rfl C dJ8_removeTreeNode_492 0 rfl ?_
      refine g_putZ 496 rfl C dJ8_removeTreeNode_493 fl_HashMap_TreeNode_93 rfl rfl (Or.inl rfl) e344 rfl ?_
      have w := w _ rfl
      refine g_goto 526 C dJ8_removeTreeNode_496 rfl ?_
      refine g_sub [none, none, some none, some none, none, none, none, some none, none, none, none, some none, none, none, some none, none, none, none, none, none, none] [] rfl rfl ?_
      exact wk_J8_removeTreeNode_b526 C Rr N _ _ _ _ _ _ w
def wp_J8_removeTreeNode_b431 (K : Hp → Prop) (h : Hp) (l2 : Option Nat) (l3 : Int32) (l7 : Option Nat) (l11 : Option Nat) (l14 : Option Nat) : Prop :=
  (wp_J8_removeTreeNode_b462 K h l2 l3 l7 l11 l14)
set_option maxHeartbeats 4000000 in
theorem wk_J8_removeTreeNode_b431 {X : Fx} {K : Hp → Prop} (C : Cx X cJ8_removeTreeNode yJ8_removeTreeNode.cls 21 6) (Rr : Rx X (Option.none : Option Jvm.ClassFile.FieldType) (pV K)) (N : Nm X yJ8_removeTreeNode.name) (h : Hp) (l2 : Option Nat) (l3 : Int32) (l7 : Option Nat) (l11 : Option Nat) (l14 : Option Nat) (w : wp_J8_removeTreeNode_b431 K h l2 l3 l7 l11 l14) : Gd X h 431 [none, none, some (vR [51] l2), some (vI l3), none, none, none, some (vR [7] l7), none, none, none, some (vR [7] l11), none, none, some (vR [7] l14), none, none, none, none, none, none] [] := by
  unfold wp_J8_removeTreeNode_b431 at w
  refine g_goto 462 C dJ8_removeTreeNode_431 rfl ?_
  refine g_sub [none, none, some none, some none, none, none, none, some none, none, none, none, some none, none, none, some none, none, none, none, none, none, none] [] rfl rfl ?_
  exact wk_J8_removeTreeNode_b462 C Rr N _ _ _ _ _ _ w
def wp_J8_removeTreeNode_b415 (K : Hp → Prop) (h : Hp) (l2 : Option Nat) (l3 : Int32) (l7 : Option Nat) (l11 : Option Nat) (l18 : Option Nat) : Prop :=
  ((l18 = none → (wp_J8_removeTreeNode_b431 K h l2 l3 l7 l11 l11)) ∧ (∀ a383, l18 = some a383 → (wp_J8_removeTreeNode_b431 K h l2 l3 l7 l11 l18)))
set_option maxHeartbeats 4000000 in
theorem wk_J8_removeTreeNode_b415 {X : Fx} {K : Hp → Prop} (C : Cx X cJ8_removeTreeNode yJ8_removeTreeNode.cls 21 6) (Rr : Rx X (Option.none : Option Jvm.ClassFile.FieldType) (pV K)) (N : Nm X yJ8_removeTreeNode.name) (h : Hp) (l2 : Option Nat) (l3 : Int32) (l7 : Option Nat) (l11 : Option Nat) (l18 : Option Nat) (w : wp_J8_removeTreeNode_b415 K h l2 l3 l7 l11 l18) : Gd X h 415 [none, none, some (vR [51] l2), some (vI l3), none, none, none, some (vR [7] l7), none, none, none, some (vR [7] l11), none, none, none, none, none, none, some (vR [7] l18), none, none] [] := by
  unfold wp_J8_removeTreeNode_b415 at w
  refine g_aload 417 rfl C dJ8_removeTreeNode_415 rfl ?_
  refine g_ifnull 420 427 rfl C dJ8_removeTreeNode_417 rfl (fun u382 => ?_) (fun a383 u382 => ?_)
  · have w := w.1 u382
    refine g_aload 429 rfl C dJ8_removeTreeNode_427 rfl ?_
    refine g_astore 431 rfl C dJ8_removeTreeNode_429 (by decide) (rfl : _ = [none, none, some (vR [51] _), some (vI _), none, none, none, some (vR [7] _), none, none, none, some (vR [7] _), none, none, some (vR [7] _), none, none, none, some (vR [7] _), none, none]) ?_
    refine g_sub [none, none, some none, some none, none, none, none, some none, none, none, none, some none, none, none, some none, none, none, none, none, none, none] [] rfl rfl ?_
    exact wk_J8_removeTreeNode_b431 C Rr N _ _ _ _ _ _ w
  · have w := w.2 a383 u382
    refine g_aload 422 rfl C dJ8_removeTreeNode_420 rfl ?_
    refine g_astore 424 rfl C dJ8_removeTreeNode_422 (by decide) (rfl : _ = [none, none, some (vR [51] _), some (vI _), none, none, none, some (vR [7] _), none, none, none, some (vR [7] _), none, none, some (vR [7] _), none, none, none, some (vR [7] _), none, none]) ?_
    refine g_goto 431 C dJ8_removeTreeNode_424 rfl ?_
    refine g_sub [none, none, some none, some none, none, none, none, some none, none, none, none, some none, none, none, some none, none, none, none, none, none, none] [] rfl rfl ?_
    exact wk_J8_removeTreeNode_b431 C Rr N _ _ _ _ _ _ w
def wp_J8_removeTreeNode_b370 (K : Hp → Prop) (h : Hp) (l2 : Option Nat) (l3 : Int32) (l7 : Option Nat) (l11 : Option Nat) (l15 : Option Nat) (l18 : Option Nat) (l19 : Option Nat) : Prop :=
  (∃ a428, l15 = some a428 ∧ (∀ h430, h430 = wR h 6 a428 l19 → ((l19 = none → (wp_J8_removeTreeNode_b415 K h430 l2 l3 l15 l11 l18)) ∧ (∀ a432, l19 = some a432 → ((¬ l11 = (rf h430 7 a432) → (∀ h434, h434 = wR h430 8 a432 l15 → (wp_J8_removeTreeNode_b415 K h434 l2 l3 l7 l11 l18))) ∧ (l11 = (rf h430 7 a432) → (∀ h435, h435 = wR h430 7 a432 l15 → (wp_J8_removeTreeNode_b415 K h435 l2 l3 l7 l11 l18))))))))
set_option maxHeartbeats 4000000 in
theorem wk_J8_removeTreeNode_b370 {X : Fx} {K : Hp → Prop} (C : Cx X cJ8_removeTreeNode yJ8_removeTreeNode.cls 21 6) (Rr : Rx X (Option.none : Option Jvm.ClassFile.FieldType) (pV K)) (N : Nm X yJ8_removeTreeNode.name) (h : Hp) (l2 : Option Nat) (l3 : Int32) (l7 : Option Nat) (l11 : Option Nat) (l15 : Option Nat) (l18 : Option Nat) (l19 : Option Nat) (w : wp_J8_removeTreeNode_b370 K h l2 l3 l7 l11 l15 l18 l19) : Gd X h 370 [none, none, some (vR [51] l2), some (vI l3), none, none, none, some (vR [7] l7), none, none, none, some (vR [7] l11), none, none, none, some (vR [7] l15), none, none, some (vR [7] l18), some (vR [7] l19), none] [] := by
  unfold wp_J8_removeTreeNode_b370 at w
  refine g_aload 372 rfl C dJ8_removeTreeNode_370 rfl ?_
  refine g_aload 374 rfl C dJ8_removeTreeNode_372 rfl ?_
  refine g_dup_x1 375 rfl C dJ8_removeTreeNode_374 rfl rfl ?_
  obtain ⟨a428, e429, w⟩ := w
  refine g_putR 378 rfl C dJ8_removeTreeNode_375 fl_HashMap_TreeNode_9 rfl rfl rfl e429 rfl ?_
  have w := w _ rfl
  refine g_ifnonnull 381 388 rfl C dJ8_removeTreeNode_378 rfl (fun a432 u431 => ?_) (fun u431 => ?_)
  · have w := w.2 a432 u431
    refine g_aload 390 rfl C dJ8_removeTreeNode_388 rfl ?_
    refine g_aload 392 rfl C dJ8_removeTreeNode_390 rfl ?_
    refine g_getR 395 rfl C dJ8_removeTreeNode_392 fl_HashMap_TreeNode_39 rfl u431 rfl ?_
    refine g_acmp_ne 398 408 rfl C dJ8_removeTreeNode_395 rfl (fun u433 => ?_) (fun u433 => ?_)
    · have w := w.1 u433
      refine g_aload 410 rfl C dJ8_removeTreeNode_408 rfl ?_
      refine g_aload 412 rfl C dJ8_removeTreeNode_410 rfl ?_
      refine g_putR 415 rfl C dJ8_removeTreeNode_412 fl_HashMap_TreeNode_42 rfl rfl rfl u431 rfl ?_
      have w := w _ rfl
      refine g_sub [none, none, some none, some none, none, none, none, some none, none, none, none, some none, none, none, none, none, none, none, some none, none, none] [] rfl rfl ?_
      exact wk_J8_removeTreeNode_b415 C Rr N _ _ _ _ _ _ w
    · have w := w.2 u433
      refine g_aload 400 rfl C dJ8_removeTreeNode_398 rfl ?_
      refine g_aload 402 rfl C dJ8_removeTreeNode_400 rfl ?_
      refine g_putR 405 rfl C dJ8_removeTreeNode_402 fl_HashMap_TreeNode_39 rfl rfl rfl u431 rfl ?_
      have w := w _ rfl
      refine g_goto 415 C dJ8_removeTreeNode_405 rfl ?_
      refine g_sub [none, none, some none, some none, none, none, none, some none, none, none, none, some none, none, none, none, none, none, none, some none, none, none] [] rfl rfl ?_
      exact wk_J8_removeTreeNode_b415 C Rr N _ _ _ _ _ _ w
  · have w := w.1 u431
    refine g_aload 383 rfl C dJ8_removeTreeNode_381 rfl ?_
    refine g_astore 385 rfl C dJ8_removeTreeNode_383 (by decide) (rfl : _ = [none, none, some (vR [51] _), some (vI _), none, none, none, some (vR [7] _), none, none, none, some (vR [7] _), none, none, none, some (vR [7] _), none, none, some (vR [7] _), some (vR [7] _), none]) ?_
    refine g_goto 415 C dJ8_removeTreeNode_385 rfl ?_
    refine g_sub [none, none, some none, some none, none, none, none, some none, none, none, none, some none, none, none, none, none, none, none, some none, none, none] [] rfl rfl ?_
    exact wk_J8_removeTreeNode_b415 C Rr N _ _ _ _ _ _ w
def wp_J8_removeTreeNode_b352 (K : Hp → Prop) (h : Hp) (l2 : Option Nat) (l3 : Int32) (l7 : Option Nat) (l11 : Option Nat) (l12 : Option Nat) (l15 : Option Nat) (l18 : Option Nat) (l19 : Option Nat) : Prop :=
  (∃ a393, l15 = some a393 ∧ (∀ h395, h395 = wR h 7 a393 l12 → ((l12 = none → (wp_J8_removeTreeNode_b370 K h395 l2 l3 l7 l11 l15 l18 l19)) ∧ (∀ a397, l12 = some a397 → (∀ h398, h398 = wR h395 6 a397 l15 → (wp_J8_removeTreeNode_b370 K h398 l2 l3 l7 l11 l15 l18 l19))))))
set_option maxHeartbeats 4000000 in
theorem wk_J8_removeTreeNode_b352 {X : Fx} {K : Hp → Prop} (C : Cx X cJ8_removeTreeNode yJ8_removeTreeNode.cls 21 6) (Rr : Rx X (Option.none : Option Jvm.ClassFile.FieldType) (pV K)) (N : Nm X yJ8_removeTreeNode.name) (h : Hp) (l2 : Option Nat) (l3 : Int32) (l7 : Option Nat) (l11 : Option Nat) (l12 : Option Nat) (l15 : Option Nat) (l18 : Option Nat) (l19 : Option Nat) (w : wp_J8_removeTreeNode_b352 K h l2 l3 l7 l11 l12 l15 l18 l19) : Gd X h 352 [none, none, some (vR [51] l2), some (vI l3), none, none, none, some (vR [7] l7), none, none, none, some (vR [7] l11), some (vR [7] l12), none, none, some (vR [7] l15), none, none, some (vR [7] l18), some (vR [7] l19), none] [] := by
  unfold wp_J8_removeTreeNode_b352 at w
  refine g_aload 354 rfl C dJ8_removeTreeNode_352 rfl ?_
  refine g_aload 356 rfl C dJ8_removeTreeNode_354 rfl ?_
  refine g_dup_x1 357 rfl C dJ8_removeTreeNode_356 rfl rfl ?_
  obtain ⟨a393, e394, w⟩ := w
  refine g_putR 360 rfl C dJ8_removeTreeNode_357 fl_HashMap_TreeNode_39 rfl rfl rfl e394 rfl ?_
  have w := w _ rfl
  refine g_ifnull 363 370 rfl C dJ8_removeTreeNode_360 rfl (fun u396 => ?_) (fun a397 u396 => ?_)
  · have w := w.1 u396
    refine g_sub [none, none, some none, some none, none, none, none, some none, none, none, none, some none, none, none, none, some none, none, none, some none, some none, none] [] rfl rfl ?_
    exact wk_J8_removeTreeNode_b370 C Rr N _ _ _ _ _ _ _ _ w
  · have w := w.2 a397 u396
    refine g_aload 365 rfl C dJ8_removeTreeNode_363 rfl ?_
    refine g_aload 367 rfl C dJ8_removeTreeNode_365 rfl ?_
    refine g_putR 370 rfl C dJ8_removeTreeNode_367 fl_HashMap_TreeNode_9 rfl rfl rfl u396 rfl ?_
    have w := w _ rfl
    refine g_sub [none, none, some none, some none, none, none, none, some none, none, none, none, some none, none, none, none, some none, none, none, some none, some none, none] [] rfl rfl ?_
    exact wk_J8_removeTreeNode_b370 C Rr N _ _ _ _ _ _ _ _ w
def wp_J8_removeTreeNode_b328 (K : Hp → Prop) (h : Hp) (l2 : Option Nat) (l3 : Int32) (l7 : Option Nat) (l11 : Option Nat) (l12 : Option Nat) (l15 : Option Nat) (l18 : Option Nat) (l19 : Option Nat) : Prop :=
  (∃ a325, l11 = some a325 ∧ (∀ h327, h327 = wR h 7 a325 none → (∀ h328, h328 = wR h327 8 a325 l18 → ((l18 = none → (wp_J8_removeTreeNode_b352 K h328 l2 l3 l7 l11 l12 l15 l18 l19)) ∧ (∀ a330, l18 = some a330 → (∀ h331, h331 = wR h328 6 a330 l11 → (wp_J8_removeTreeNode_b352 K h331 l2 l3 l7 l11 l12 l15 l18 l19)))))))
set_option maxHeartbeats 4000000 in
theorem wk_J8_removeTreeNode_b328 {X : Fx} {K : Hp → Prop} (C : Cx X cJ8_removeTreeNode yJ8_removeTreeNode.cls 21 6) (Rr : Rx X (Option.none : Option Jvm.ClassFile.FieldType) (pV K)) (N : Nm X yJ8_removeTreeNode.name) (h : Hp) (l2 : Option Nat) (l3 : Int32) (l7 : Option Nat) (l11 : Option Nat) (l12 : Option Nat) (l15 : Option Nat) (l18 : Option Nat) (l19 : Option Nat) (w : wp_J8_removeTreeNode_b328 K h l2 l3 l7 l11 l12 l15 l18 l19) : Gd X h 328 [none, none, some (vR [51] l2), some (vI l3), none, none, none, some (vR [7] l7), none, none, none, some (vR [7] l11), some (vR [7] l12), none, none, some (vR [7] l15), none, none, some (vR [7] l18), some (vR [7] l19), none] [] := by
  unfold wp_J8_removeTreeNode_b328 at w
  refine g_aload 330 rfl C dJ8_removeTreeNode_328 rfl ?_
  refine g_null 331 rfl C dJ8_removeTreeNode_330 ?_
  obtain ⟨a325, e326, w⟩ := w
  refine g_putR 334 rfl C dJ8_removeTreeNode_331 fl_HashMap_TreeNode_39 rfl rfl rfl e326 rfl ?_
  have w := w _ rfl
  refine g_aload 336 rfl C dJ8_removeTreeNode_334 rfl ?_
  refine g_aload 338 rfl C dJ8_removeTreeNode_336 rfl ?_
  refine g_dup_x1 339 rfl C dJ8_removeTreeNode_338 rfl rfl ?_
  refine g_putR 342 rfl C dJ8_removeTreeNode_339 fl_HashMap_TreeNode_42 rfl rfl rfl e326 rfl ?_
  have w := w _ rfl
  refine g_ifnull 345 352 rfl C dJ8_removeTreeNode_342 rfl (fun u329 => ?_) (fun a330 u329 => ?_)
  · have w := w.1 u329
    refine g_sub [none, none, some none, some none, none, none, none, some none, none, none, none, some none, some none, none, none, some none, none, none, some none, some none, none] [] rfl rfl ?_
    exact wk_J8_removeTreeNode_b352 C Rr N _ _ _ _ _ _ _ _ _ w
  · have w := w.2 a330 u329
    refine g_aload 347 rfl C dJ8_removeTreeNode_345 rfl ?_
    refine g_aload 349 rfl C dJ8_removeTreeNode_347 rfl ?_
    refine g_putR 352 rfl C dJ8_removeTreeNode_349 fl_HashMap_TreeNode_9 rfl rfl rfl u329 rfl ?_
    have w := w _ rfl
    refine g_sub [none, none, some none, some none, none, none, none, some none, none, none, none, some none, some none, none, none, some none, none, none, some none, some none, none] [] rfl rfl ?_
    exact wk_J8_removeTreeNode_b352 C Rr N _ _ _ _ _ _ _ _ _ w
def wp_J8_removeTreeNode_b310 (K : Hp → Prop) (h : Hp) (l2 : Option Nat) (l3 : Int32) (l7 : Option Nat) (l11 : Option Nat) (l12 : Option Nat) (l13 : Option Nat) (l15 : Option Nat) (l18 : Option Nat) (l19 : Option Nat) : Prop :=
  (∃ a436, l15 = some a436 ∧ (∀ h438, h438 = wR h 8 a436 l13 → ((l13 = none → (wp_J8_removeTreeNode_b328 K h438 l2 l3 l7 l11 l12 l15 l18 l19)) ∧ (∀ a440, l13 = some a440 → (∀ h441, h441 = wR h438 6 a440 l15 → (wp_J8_removeTreeNode_b328 K h441 l2 l3 l7 l11 l12 l15 l18 l19))))))
set_option maxHeartbeats 4000000 in
theorem wk_J8_removeTreeNode_b310 {X : Fx} {K : Hp → Prop} (C : Cx X cJ8_removeTreeNode yJ8_removeTreeNode.cls 21 6) (Rr : Rx X (Option.none : Option Jvm.ClassFile.FieldType) (pV K)) (N : Nm X yJ8_removeTreeNode.name) (h : Hp) (l2 : Option Nat) (l3 : Int32) (l7 : Option Nat) (l11 : Option Nat) (l12 : Option Nat) (l13 : Option Nat) (l15 : Option Nat) (l18 : Option Nat) (l19 : Option Nat) (w : wp_J8_removeTreeNode_b310 K h l2 l3 l7 l11 l12 l13 l15 l18 l19) : Gd X h 310 [none, none, some (vR [51] l2), some (vI l3), none, none, none, some (vR [7] l7), none, none, none, some (vR [7] l11), some (vR [7] l12), some (vR [7] l13), none, some (vR [7] l15), none, none, some (vR [7] l18), some (vR [7] l19), none] [] := by
  unfold wp_J8_removeTreeNode_b310 at w
  refine g_aload 312 rfl C dJ8_removeTreeNode_310 rfl ?_
  refine g_aload 314 rfl C dJ8_removeTreeNode_312 rfl ?_
  refine g_dup_x1 315 rfl C dJ8_removeTreeNode_314 rfl rfl ?_
  obtain ⟨a436, e437, w⟩ := w
  refine g_putR 318 rfl C dJ8_removeTreeNode_315 fl_HashMap_TreeNode_42 rfl rfl rfl e437 rfl ?_
  have w := w _ rfl
  refine g_ifnull 321 328 rfl C dJ8_removeTreeNode_318 rfl (fun u439 => ?_) (fun a440 u439 => ?_)
  · have w := w.1 u439
    refine g_sub [none, none, some none, some none, none, none, none, some none, none, none, none, some none, some none, none, none, some none, none, none, some none, some none, none] [] rfl rfl ?_
    exact wk_J8_removeTreeNode_b328 C Rr N _ _ _ _ _ _ _ _ _ w
  · have w := w.2 a440 u439
    refine g_aload 323 rfl C dJ8_removeTreeNode_321 rfl ?_
    refine g_aload 325 rfl C dJ8_removeTreeNode_323 rfl ?_
    refine g_putR 328 rfl C dJ8_removeTreeNode_325 fl_HashMap_TreeNode_9 rfl rfl rfl u439 rfl ?_
    have w := w _ rfl
    refine g_sub [none, none, some none, some none, none, none, none, some none, none, none, none, some none, some none, none, none, some none, none, none, some none, some none, none] [] rfl rfl ?_
    exact wk_J8_removeTreeNode_b328 C Rr N _ _ _ _ _ _ _ _ _ w
def wp_J8_removeTreeNode_b185 (K : Hp → Prop) : Nat → Hp → Option Nat → Int32 → Option Nat → Option Nat → Option Nat → Option Nat → Option Nat → Prop
  | 0 => fun _ _ _ _ _ _ _ _ => False
  | m9 + 1 => fun h l2 l3 l7 l11 l12 l13 l15 =>
    (∃ a442, l15 = some a442 ∧ (((rf h 7 a442) = none → ((it h 10 a442) = 0 ∨ (it h 10 a442) = 1 → (∃ a447, l11 = some a447 ∧ ((it h 10 a447) = 0 ∨ (it h 10 a447) = 1 → (∀ h450, h450 = wI h 10 a442 (it h 10 a447) → (∀ h451, h451 = wI h450 10 a447 (it h 10 a442) → ((¬ l15 = l13 → (∀ h453, h453 = wR h451 6 a447 (rf h451 6 a442) → (((rf h451 6 a442) = none → (wp_J8_removeTreeNode_b310 K h453 l2 l3 l7 l11 l12 l13 l15 (rf h451 8 a442) (rf h451 6 a447))) ∧ (∀ a455, (rf h451 6 a442) = some a455 → ((¬ l15 = (rf h453 7 a455) → (∀ h457, h457 = wR h453 8 a455 l11 → (wp_J8_removeTreeNode_b310 K h457 l2 l3 l7 l11 l12 l13 l15 (rf h451 8 a442) (rf h451 6 a447)))) ∧ (l15 = (rf h453 7 a455) → (∀ h458, h458 = wR h453 7 a455 l11 → (wp_J8_removeTreeNode_b310 K h458 l2 l3 l7 l11 l12 l13 l15 (rf h451 8 a442) (rf h451 6 a447))))))))) ∧ (l15 = l13 → (∀ h459, h459 = wR h451 6 a447 l15 → (∀ h460, h460 = wR h459 8 a442 l11 → (wp_J8_removeTreeNode_b328 K h460 l2 l3 l7 l11 l12 l15 (rf h451 8 a442) (rf h451 6 a447)))))))))))) ∧ (∀ a445, (rf h 7 a442) = some a445 → (wp_J8_removeTreeNode_b185 K m9 h l2 l3 l7 l11 l12 l13 (rf h 7 a442)))))
set_option maxHeartbeats 4000000 in
theorem wk_J8_removeTreeNode_b185 {X : Fx} {K : Hp → Prop} (C : Cx X cJ8_removeTreeNode yJ8_removeTreeNode.cls 21 6) (Rr : Rx X (Option.none : Option Jvm.ClassFile.FieldType) (pV K)) (N : Nm X yJ8_removeTreeNode.name) : ∀ (n : Nat) (h : Hp) (l2 : Option Nat) (l3 : Int32) (l7 : Option Nat) (l11 : Option Nat) (l12 : Option Nat) (l13 : Option Nat) (l15 : Option Nat), wp_J8_removeTreeNode_b185 K n h l2 l3 l7 l11 l12 l13 l15 → Gd X h 185 [none, none, some (vR [51] l2), some (vI l3), none, none, none, some (vR [7] l7), none, none, none, some (vR [7] l11), some (vR [7] l12), some (vR [7] l13), none, some (vR [7] l15), none, none, none, none, none] [] := by
  intro n
  induction n with
  | zero => intro h l2 l3 l7 l11 l12 l13 l15 w; exact w.elim
  | succ n ih =>
    intro h l2 l3 l7 l11 l12 l13 l15 w
    unfold wp_J8_removeTreeNode_b185 at w
    refine g_aload 187 rfl C dJ8_removeTreeNode_185 rfl ?_
    obtain ⟨a442, e443, w⟩ := w
    refine g_getR 190 rfl C dJ8_removeTreeNode_187 fl_HashMap_TreeNode_39 rfl e443 rfl ?_
    refine g_dup 191 rfl C dJ8_removeTreeNode_190 rfl ?_
    refine g_astore 193 rfl C dJ8_removeTreeNode_191 (by decide) (rfl : _ = [none, none, some (vR [51] _), some (vI _), none, none, none, some (vR [7] _), none, none, none, some (vR [7] _), some (vR [7] _), some (vR [7] _), none, some (vR [7] _), some (vR [7] _), none, none, none, none]) ?_
    refine g_ifnull 196 203 rfl C dJ8_removeTreeNode_193 rfl (fun u444 => ?_) (fun a445 u444 => ?_)
    · have w := w.1 u444
      refine g_aload 205 rfl C dJ8_removeTreeNode_203 rfl ?_
      refine g_getZ 208 rfl C dJ8_removeTreeNode_205 fl_HashMap_TreeNode_93 rfl e443 rfl (fun z446 => ?_)
      have w := w z446
      refine g_istore 210 rfl C dJ8_removeTreeNode_208 (by decide) (rfl : _ = [none, none, some (vR [51] _), some (vI _), none, none, none, some (vR [7] _), none, none, none, some (vR [7] _), some (vR [7] _), some (vR [7] _), none, some (vR [7] _), some (vR [7] _), some (vI _), none, none, none]) ?_
      refine g_aload 212 rfl C dJ8_removeTreeNode_210 rfl ?_
      refine g_aload 214 rfl C dJ8_removeTreeNode_212 rfl ?_
      obtain ⟨a447, e448, w⟩ := w
      refine g_getZ 217 rfl C dJ8_removeTreeNode_214 fl_HashMap_TreeNode_93 rfl e448 rfl (fun z449 => ?_)
      have w := w z449
      refine g_putZ 220 rfl C dJ8_removeTreeNode_217 fl_HashMap_TreeNode_93 rfl rfl z449 e443 rfl ?_
      have w := w _ rfl
      refine g_aload 222 rfl C dJ8_removeTreeNode_220 rfl ?_
      refine g_iload 224 rfl C dJ8_removeTreeNode_222 rfl ?_
      refine g_putZ 227 rfl C dJ8_removeTreeNode_224 fl_HashMap_TreeNode_93 rfl rfl z446 e448 rfl ?_
      have w := w _ rfl
      refine g_aload 229 rfl C dJ8_removeTreeNode_227 rfl ?_
      refine g_getR 232 rfl C dJ8_removeTreeNode_229 fl_HashMap_TreeNode_42 rfl e443 rfl ?_
      refine g_astore 234 rfl C dJ8_removeTreeNode_232 (by decide) (rfl : _ = [none, none, some (vR [51] _), some (vI _), none, none, none, some (vR [7] _), none, none, none, some (vR [7] _), some (vR [7] _), some (vR [7] _), none, some (vR [7] _), some (vR [7] _), some (vI _), some (vR [7] _), none, none]) ?_
      refine g_aload 236 rfl C dJ8_removeTreeNode_234 rfl ?_
      refine g_getR 239 rfl C dJ8_removeTreeNode_236 fl_HashMap_TreeNode_9 rfl e448 rfl ?_
      refine g_astore 241 rfl C dJ8_removeTreeNode_239 (by decide) (rfl : _ = [none, none, some (vR [51] _), some (vI _), none, none, none, some (vR [7] _), none, none, none, some (vR [7] _), some (vR [7] _), some (vR [7] _), none, some (vR [7] _), some (vR [7] _), some (vI _), some (vR [7] _), some (vR [7] _), none]) ?_
      refine g_aload 243 rfl C dJ8_removeTreeNode_241 rfl ?_
      refine g_aload 245 rfl C dJ8_removeTreeNode_243 rfl ?_
      refine g_acmp_ne 248 265 rfl C dJ8_removeTreeNode_245 rfl (fun u452 => ?_) (fun u452 => ?_)
      · have w := w.1 u452
        refine g_aload 267 rfl C dJ8_removeTreeNode_265 rfl ?_
        refine g_getR 270 rfl C dJ8_removeTreeNode_267 fl_HashMap_TreeNode_9 rfl e443 rfl ?_
        refine g_astore 272 rfl C dJ8_removeTreeNode_270 (by decide) (rfl : _ = [none, none, some (vR [51] _), some (vI _), none, none, none, some (vR [7] _), none, none, none, some (vR [7] _), some (vR [7] _), some (vR [7] _), none, some (vR [7] _), some (vR [7] _), some (vI _), some (vR [7] _), some (vR [7] _), some (vR [7] _)]) ?_
        refine g_aload 274 rfl C dJ8_removeTreeNode_272 rfl ?_
        refine g_aload 276 rfl C dJ8_removeTreeNode_274 rfl ?_
        refine g_dup_x1 277 rfl C dJ8_removeTreeNode_276 rfl rfl ?_
        refine g_putR 280 rfl C dJ8_removeTreeNode_277 fl_HashMap_TreeNode_9 rfl rfl rfl e448 rfl ?_
        have w := w _ rfl
        refine g_ifnull 283 310 rfl C dJ8_removeTreeNode_280 rfl (fun u454 => ?_) (fun a455 u454 => ?_)
        · have w := w.1 u454
          refine g_sub [none, none, some none, some none, none, none, none, some none, none, none, none, some none, some none, some none, none, some none, none, none, some none, some none, none] [] rfl rfl ?_
          exact wk_J8_removeTreeNode_b310 C Rr N _ _ _ _ _ _ _ _ _ _ w
        · have w := w.2 a455 u454
          refine g_aload 285 rfl C dJ8_removeTreeNode_283 rfl ?_
          refine g_aload 287 rfl C dJ8_removeTreeNode_285 rfl ?_
          refine g_getR 290 rfl C dJ8_removeTreeNode_287 fl_HashMap_TreeNode_39 rfl u454 rfl ?_
          refine g_acmp_ne 293 303 rfl C dJ8_removeTreeNode_290 rfl (fun u456 => ?_) (fun u456 => ?_)
          · have w := w.1 u456
            refine g_aload 305 rfl C dJ8_removeTreeNode_303 rfl ?_
            refine g_aload 307 rfl C dJ8_removeTreeNode_305 rfl ?_
            refine g_putR 310 rfl C dJ8_removeTreeNode_307 fl_HashMap_TreeNode_42 rfl rfl rfl u454 rfl ?_
            have w := w _ rfl
            refine g_sub [none, none, some none, some none, none, none, none, some none, none, none, none, some none, some none, some none, none, some none, none, none, some none, some none, none] [] rfl rfl ?_
            exact wk_J8_removeTreeNode_b310 C Rr N _ _ _ _ _ _ _ _ _ _ w
          · have w := w.2 u456
            refine g_aload 295 rfl C dJ8_removeTreeNode_293 rfl ?_
            refine g_aload 297 rfl C dJ8_removeTreeNode_295 rfl ?_
            refine g_putR 300 rfl C dJ8_removeTreeNode_297 fl_HashMap_TreeNode_39 rfl rfl rfl u454 rfl ?_
            have w := w _ rfl
            refine g_goto 310 C dJ8_removeTreeNode_300 rfl ?_
            refine g_sub [none, none, some none, some none, none, none, none, some none, none, none, none, some none, some none, some none, none, some none, none, none, some none, some none, none] [] rfl rfl ?_
            exact wk_J8_removeTreeNode_b310 C Rr N _ _ _ _ _ _ _ _ _ _ w
      · have w := w.2 u452
        refine g_aload 250 rfl C dJ8_removeTreeNode_248 rfl ?_
        refine g_aload 252 rfl C dJ8_removeTreeNode_250 rfl ?_
        refine g_putR 255 rfl C dJ8_removeTreeNode_252 fl_HashMap_TreeNode_9 rfl rfl rfl e448 rfl ?_
        have w := w _ rfl
        refine g_aload 257 rfl C dJ8_removeTreeNode_255 rfl ?_
        refine g_aload 259 rfl C dJ8_removeTreeNode_257 rfl ?_
        refine g_putR 262 rfl C dJ8_removeTreeNode_259 fl_HashMap_TreeNode_42 rfl rfl rfl e443 rfl ?_
        have w := w _ rfl
        refine g_goto 328 C dJ8_removeTreeNode_262 rfl ?_
        refine g_sub [none, none, some none, some none, none, none, none, some none, none, none, none, some none, some none, none, none, some none, none, none, some none, some none, none] [] rfl rfl ?_
        exact wk_J8_removeTreeNode_b328 C Rr N _ _ _ _ _ _ _ _ _ w
    · have w := w.2 a445 u444
      refine g_aload 198 rfl C dJ8_removeTreeNode_196 rfl ?_
      refine g_astore 200 rfl C dJ8_removeTreeNode_198 (by decide) (rfl : _ = [none, none, some (vR [51] _), some (vI _), none, none, none, some (vR [7] _), none, none, none, some (vR [7] _), some (vR [7] _), some (vR [7] _), none, some (vR [7] _), some (vR [7] _), none, none, none, none]) ?_
      refine g_goto 185 C dJ8_removeTreeNode_200 rfl ?_
      refine g_sub [none, none, some none, some none, none, none, none, some none, none, none, none, some none, some none, some none, none, some none, none, none, none, none, none] [] rfl rfl ?_
      exact ih _ _ _ _ _ _ _ _ w
def wp_J8_removeTreeNode_b434 (K : Hp → Prop) (h : Hp) (l2 : Option Nat) (l3 : Int32) (l7 : Option Nat) (l11 : Option Nat) (l12 : Option Nat) (l13 : Option Nat) : Prop :=
  ((l12 = none → ((l13 = none → (wp_J8_removeTreeNode_b462 K h l2 l3 l7 l11 l11)) ∧ (∀ a411, l13 = some a411 → (wp_J8_removeTreeNode_b462 K h l2 l3 l7 l11 l13)))) ∧ (∀ a409, l12 = some a409 → (wp_J8_removeTreeNode_b462 K h l2 l3 l7 l11 l12)))
set_option maxHeartbeats 4000000 in
theorem wk_J8_removeTreeNode_b434 {X : Fx} {K : Hp → Prop} (C : Cx X cJ8_removeTreeNode yJ8_removeTreeNode.cls 21 6) (Rr : Rx X (Option.none : Option Jvm.ClassFile.FieldType) (pV K)) (N : Nm X yJ8_removeTreeNode.name) (h : Hp) (l2 : Option Nat) (l3 : Int32) (l7 : Option Nat) (l11 : Option Nat) (l12 : Option Nat) (l13 : Option Nat) (w : wp_J8_removeTreeNode_b434 K h l2 l3 l7 l11 l12 l13) : Gd X h 434 [none, none, some (vR [51] l2), some (vI l3), none, none, none, some (vR [7] l7), none, none, none, some (vR [7] l11), some (vR [7] l12), some (vR [7] l13), none, none, none, none, none, none, none] [] := by
  unfold wp_J8_removeTreeNode_b434 at w
  refine g_aload 436 rfl C dJ8_removeTreeNode_434 rfl ?_
  refine g_ifnull 439 446 rfl C dJ8_removeTreeNode_436 rfl (fun u408 => ?_) (fun a409 u408 => ?_)
  · have w := w.1 u408
    refine g_aload 448 rfl C dJ8_removeTreeNode_446 rfl ?_
    refine g_ifnull 451 458 rfl C dJ8_removeTreeNode_448 rfl (fun u410 => ?_) (fun a411 u410 => ?_)
    · have w := w.1 u410
      refine g_aload 460 rfl C dJ8_removeTreeNode_458 rfl ?_
      refine g_astore 462 rfl C dJ8_removeTreeNode_460 (by decide) (rfl : _ = [none, none, some (vR [51] _), some (vI _), none, none, none, some (vR [7] _), none, none, none, some (vR [7] _), some (vR [7] _), some (vR [7] _), some (vR [7] _), none, none, none, none, none, none]) ?_
      refine g_sub [none, none, some none, some none, none, none, none, some none, none, none, none, some none, none, none, some none, none, none, none, none, none, none] [] rfl rfl ?_
      exact wk_J8_removeTreeNode_b462 C Rr N _ _ _ _ _ _ w
    · have w := w.2 a411 u410
      refine g_aload 453 rfl C dJ8_removeTreeNode_451 rfl ?_
      refine g_astore 455 rfl C dJ8_removeTreeNode_453 (by decide) (rfl : _ = [none, none, some (vR [51] _), some (vI _), none, none, none, some (vR [7] _), none, none, none, some (vR [7] _), some (vR [7] _), some (vR [7] _), some (vR [7] _), none, none, none, none, none, none]) ?_
      refine g_goto 462 C dJ8_removeTreeNode_455 rfl ?_
      refine g_sub [none, none, some none, some none, none, none, none, some none, none, none, none, some none, none, none, some none, none, none, none, none, none, none] [] rfl rfl ?_
      exact wk_J8_removeTreeNode_b462 C Rr N _ _ _ _ _ _ w
  · have w := w.2 a409 u408
    refine g_aload 441 rfl C dJ8_removeTreeNode_439 rfl ?_
    refine g_astore 443 rfl C dJ8_removeTreeNode_441 (by decide) (rfl : _ = [none, none, some (vR [51] _), some (vI _), none, none, none, some (vR [7] _), none, none, none, some (vR [7] _), some (vR [7] _), some (vR [7] _), some (vR [7] _), none, none, none, none, none, none]) ?_
    refine g_goto 462 C dJ8_removeTreeNode_443 rfl ?_
    refine g_sub [none, none, some none, some none, none, none, none, some none, none, none, none, some none, none, none, some none, none, none, none, none, none, none] [] rfl rfl ?_
    exact wk_J8_removeTreeNode_b462 C Rr N _ _ _ _ _ _ w
def wp_J8_removeTreeNode_b156 (K : Hp → Prop) (h : Hp) (l0 : Option Nat) (l2 : Option Nat) (l3 : Int32) (l7 : Option Nat) : Prop :=
  (∃ a376, l0 = some a376 ∧ (((rf h 7 a376) = none → (wp_J8_removeTreeNode_b434 K h l2 l3 l7 l0 (rf h 7 a376) (rf h 8 a376))) ∧ (∀ a379, (rf h 7 a376) = some a379 → (((rf h 8 a376) = none → (wp_J8_removeTreeNode_b434 K h l2 l3 l7 l0 (rf h 7 a376) (rf h 8 a376))) ∧ (∀ a381, (rf h 8 a376) = some a381 → (∃ n, wp_J8_removeTreeNode_b185 K n h l2 l3 l7 l0 (rf h 7 a376) (rf h 8 a376) (rf h 8 a376)))))))
set_option maxHeartbeats 4000000 in
theorem wk_J8_removeTreeNode_b156 {X : Fx} {K : Hp → Prop} (C : Cx X cJ8_removeTreeNode yJ8_removeTreeNode.cls 21 6) (Rr : Rx X (Option.none : Option Jvm.ClassFile.FieldType) (pV K)) (N : Nm X yJ8_removeTreeNode.name) (h : Hp) (l0 : Option Nat) (l2 : Option Nat) (l3 : Int32) (l7 : Option Nat) (w : wp_J8_removeTreeNode_b156 K h l0 l2 l3 l7) : Gd X h 156 [some (vR [7] l0), none, some (vR [51] l2), some (vI l3), none, none, none, some (vR [7] l7), none, none, none, none, none, none, none, none, none, none, none, none, none] [] := by
  unfold wp_J8_removeTreeNode_b156 at w
  refine g_aload_n 157 rfl C dJ8_removeTreeNode_156 rfl ?_
  refine g_astore 159 rfl C dJ8_removeTreeNode_157 (by decide) (rfl : _ = [some (vR [7] _), none, some (vR [51] _), some (vI _), none, none, none, some (vR [7] _), none, none, none, some (vR [7] _), none, none, none, none, none, none, none, none, none]) ?_
  refine g_aload_n 160 rfl C dJ8_removeTreeNode_159 rfl ?_
  obtain ⟨a376, e377, w⟩ := w
  refine g_getR 163 rfl C dJ8_removeTreeNode_160 fl_HashMap_TreeNode_39 rfl e377 rfl ?_
  refine g_astore 165 rfl C dJ8_removeTreeNode_163 (by decide) (rfl : _ = [some (vR [7] _), none, some (vR [51] _), some (vI _), none, none, none, some (vR [7] _), none, none, none, some (vR [7] _), some (vR [7] _), none, none, none, none, none, none, none, none]) ?_
  refine g_aload_n 166 rfl C dJ8_removeTreeNode_165 rfl ?_
  refine g_getR 169 rfl C dJ8_removeTreeNode_166 fl_HashMap_TreeNode_42 rfl e377 rfl ?_
  refine g_astore 171 rfl C dJ8_removeTreeNode_169 (by decide) (rfl : _ = [some (vR [7] _), none, some (vR [51] _), some (vI _), none, none, none, some (vR [7] _), none, none, none, some (vR [7] _), some (vR [7] _), some (vR [7] _), none, none, none, none, none, none, none]) ?_
  refine g_aload 173 rfl C dJ8_removeTreeNode_171 rfl ?_
  refine g_ifnull 176 434 rfl C dJ8_removeTreeNode_173 rfl (fun u378 => ?_) (fun a379 u378 => ?_)
  · have w := w.1 u378
    refine g_sub [none, none, some none, some none, none, none, none, some none, none, none, none, some none, some none, some none, none, none, none, none, none, none, none] [] rfl rfl ?_
    exact wk_J8_removeTreeNode_b434 C Rr N _ _ _ _ _ _ _ w
  · have w := w.2 a379 u378
    refine g_aload 178 rfl C dJ8_removeTreeNode_176 rfl ?_
    refine g_ifnull 181 434 rfl C dJ8_removeTreeNode_178 rfl (fun u380 => ?_) (fun a381 u380 => ?_)
    · have w := w.1 u380
      refine g_sub [none, none, some none, some none, none, none, none, some none, none, none, none, some none, some none, some none, none, none, none, none, none, none, none] [] rfl rfl ?_
      exact wk_J8_removeTreeNode_b434 C Rr N _ _ _ _ _ _ _ w
    · have w := w.2 a381 u380
      refine g_aload 183 rfl C dJ8_removeTreeNode_181 rfl ?_
      refine g_astore 185 rfl C dJ8_removeTreeNode_183 (by decide) (rfl : _ = [some (vR [7] _), none, some (vR [51] _), some (vI _), none, none, none, some (vR [7] _), none, none, none, some (vR [7] _), some (vR [7] _), some (vR [7] _), none, some (vR [7] _), none, none, none, none, none]) ?_
      refine g_sub [none, none, some none, some none, none, none, none, some none, none, none, none, some none, some none, some none, none, some none, none, none, none, none, none] [] rfl rfl ?_
      obtain ⟨n9, w⟩ := w
      exact wk_J8_removeTreeNode_b185 C Rr N n9 _ _ _ _ _ _ _ _ w
def wp_J8_removeTreeNode_b109 (K : Hp → Prop) (h : Hp) (l0 : Option Nat) (l1 : Option Nat) (l2 : Option Nat) (l3 : Int32) (l5 : Int32) (l6 : Option Nat) (l7 : Option Nat) : Prop :=
  ((l7 = none → (wp_J8_removeTreeNode_b145 K h l1 l2 l5 l6)) ∧ (∀ a400, l7 = some a400 → ((l3 = 0 → (wp_J8_removeTreeNode_b156 K h l0 l2 l3 l7)) ∧ (¬ l3 = 0 → (((rf h 8 a400) = none → (wp_J8_removeTreeNode_b145 K h l1 l2 l5 l6)) ∧ (∀ a403, (rf h 8 a400) = some a403 → (((rf h 7 a400) = none → (wp_J8_removeTreeNode_b145 K h l1 l2 l5 l6)) ∧ (∀ a405, (rf h 7 a400) = some a405 → (((rf h 7 a405) = none → (wp_J8_removeTreeNode_b145 K h l1 l2 l5 l6)) ∧ (∀ a407, (rf h 7 a405) = some a407 → (wp_J8_removeTreeNode_b156 K h l0 l2 l3 l7)))))))))))
set_option maxHeartbeats 4000000 in
theorem wk_J8_removeTreeNode_b109 {X : Fx} {K : Hp → Prop} (C : Cx X cJ8_removeTreeNode yJ8_removeTreeNode.cls 21 6) (Rr : Rx X (Option.none : Option Jvm.ClassFile.FieldType) (pV K)) (N : Nm X yJ8_removeTreeNode.name) (h : Hp) (l0 : Option Nat) (l1 : Option Nat) (l2 : Option Nat) (l3 : Int32) (l5 : Int32) (l6 : Option Nat) (l7 : Option Nat) (w : wp_J8_removeTreeNode_b109 K h l0 l1 l2 l3 l5 l6 l7) : Gd X h 109 [some (vR [7] l0), some (vR [2, 3] l1), some (vR [51] l2), some (vI l3), none, some (vI l5), some (vR [7] l6), some (vR [7] l7), none, none, none, none, none, none, none, none, none, none, none, none, none] [] := by
  unfold wp_J8_removeTreeNode_b109 at w
  refine g_aload 111 rfl C dJ8_removeTreeNode_109 rfl ?_
  refine g_ifnull 114 145 rfl C dJ8_removeTreeNode_111 rfl (fun u399 => ?_) (fun a400 u399 => ?_)
  · have w := w.1 u399
    refine g_sub [none, some none, some none, none, none, some none, some none, none, none, none, none, none, none, none, none, none, none, none, none, none, none] [] rfl rfl ?_
    exact wk_J8_removeTreeNode_b145 C Rr N _ _ _ _ _ w
  · have w := w.2 a400 u399
    refine g_iload_n 115 rfl C dJ8_removeTreeNode_114 rfl ?_
    refine g_if_eq 118 156 rfl C dJ8_removeTreeNode_115 rfl (fun u401 => ?_) (fun u401 => ?_)
    · have w := w.1 u401
      refine g_sub [some none, none, some none, some none, none, none, none, some none, none, none, none, none, none, none, none, none, none, none, none, none, none] [] rfl rfl ?_
      exact wk_J8_removeTreeNode_b156 C Rr N _ _ _ _ _ w
    · have w := w.2 u401
      refine g_aload 120 rfl C dJ8_removeTreeNode_118 rfl ?_
      refine g_getR 123 rfl C dJ8_removeTreeNode_120 fl_HashMap_TreeNode_42 rfl u399 rfl ?_
      refine g_ifnull 126 145 rfl C dJ8_removeTreeNode_123 rfl (fun u402 => ?_) (fun a403 u402 => ?_)
      · have w := w.1 u402
        refine g_sub [none, some none, some none, none, none, some none, some none, none, none, none, none, none, none, none, none, none, none, none, none, none, none] [] rfl rfl ?_
        exact wk_J8_removeTreeNode_b145 C Rr N _ _ _ _ _ w
      · have w := w.2 a403 u402
        refine g_aload 128 rfl C dJ8_removeTreeNode_126 rfl ?_
        refine g_getR 131 rfl C dJ8_removeTreeNode_128 fl_HashMap_TreeNode_39 rfl u399 rfl ?_
        refine g_dup 132 rfl C dJ8_removeTreeNode_131 rfl ?_
        refine g_astore 134 rfl C dJ8_removeTreeNode_132 (by decide) (rfl : _ = [some (vR [7] _), some (vR [2, 3] _), some (vR [51] _), some (vI _), none, some (vI _), some (vR [7] _), some (vR [7] _), some (vR [7] _), none, none, none, none, none, none, none, none, none, none, none, none]) ?_
        refine g_ifnull 137 145 rfl C dJ8_removeTreeNode_134 rfl (fun u404 => ?_) (fun a405 u404 => ?_)
        · have w := w.1 u404
          refine g_sub [none, some none, some none, none, none, some none, some none, none, none, none, none, none, none, none, none, none, none, none, none, none, none] [] rfl rfl ?_
          exact wk_J8_removeTreeNode_b145 C Rr N _ _ _ _ _ w
        · have w := w.2 a405 u404
          refine g_aload 139 rfl C dJ8_removeTreeNode_137 rfl ?_
          refine g_getR 142 rfl C dJ8_removeTreeNode_139 fl_HashMap_TreeNode_39 rfl u404 rfl ?_
          refine g_ifnonnull 145 156 rfl C dJ8_removeTreeNode_142 rfl (fun a407 u406 => ?_) (fun u406 => ?_)
          · have w := w.2 a407 u406
            refine g_sub [some none, none, some none, some none, none, none, none, some none, none, none, none, none, none, none, none, none, none, none, none, none, none] [] rfl rfl ?_
            exact wk_J8_removeTreeNode_b156 C Rr N _ _ _ _ _ w
          · have w := w.1 u406
            refine g_sub [none, some none, some none, none, none, some none, some none, none, none, none, none, none, none, none, none, none, none, none, none, none, none] [] rfl rfl ?_
            exact wk_J8_removeTreeNode_b145 C Rr N _ _ _ _ _ w
def wp_J8_removeTreeNode_b88 (K : Hp → Prop) (h : Hp) (l0 : Option Nat) (l1 : Option Nat) (l2 : Option Nat) (l3 : Int32) (l5 : Int32) (l6 : Option Nat) (l7 : Option Nat) : Prop :=
  ((l6 = none → (K h)) ∧ (∀ a366, l6 = some a366 → (∃ a367, l7 = some a367 ∧ (((rf h 6 a367) = none → (wp_J8_removeTreeNode_b109 K h l0 l1 l2 l3 l5 l6 l7)) ∧ (∀ a370, (rf h 6 a367) = some a370 → (wp_J8_root h l7 (fun r372 h373 => Ex h h373 → (wp_J8_removeTreeNode_b109 K h373 l0 l1 l2 l3 l5 l6 r372))))))))
set_option maxHeartbeats 4000000 in
theorem wk_J8_removeTreeNode_b88 {X : Fx} {K : Hp → Prop} (C : Cx X cJ8_removeTreeNode yJ8_removeTreeNode.cls 21 6) (Rr : Rx X (Option.none : Option Jvm.ClassFile.FieldType) (pV K)) (N : Nm X yJ8_removeTreeNode.name) (h : Hp) (l0 : Option Nat) (l1 : Option Nat) (l2 : Option Nat) (l3 : Int32) (l5 : Int32) (l6 : Option Nat) (l7 : Option Nat) (w : wp_J8_removeTreeNode_b88 K h l0 l1 l2 l3 l5 l6 l7) : Gd X h 88 [some (vR [7] l0), some (vR [2, 3] l1), some (vR [51] l2), some (vI l3), none, some (vI l5), some (vR [7] l6), some (vR [7] l7), none, none, none, none, none, none, none, none, none, none, none, none, none] [] := by
  unfold wp_J8_removeTreeNode_b88 at w
  refine g_aload 90 rfl C dJ8_removeTreeNode_88 rfl ?_
  refine g_ifnonnull 93 94 rfl C dJ8_removeTreeNode_90 rfl (fun a366 u365 => ?_) (fun u365 => ?_)
  · have w := w.2 a366 u365
    refine g_aload 96 rfl C dJ8_removeTreeNode_94 rfl ?_
    obtain ⟨a367, e368, w⟩ := w
    refine g_getR 99 rfl C dJ8_removeTreeNode_96 fl_HashMap_TreeNode_9 rfl e368 rfl ?_
    refine g_ifnull 102 109 rfl C dJ8_removeTreeNode_99 rfl (fun u369 => ?_) (fun a370 u369 => ?_)
    · have w := w.1 u369
      refine g_sub [some none, some none, some none, some none, none, some none, some none, some none, none, none, none, none, none, none, none, none, none, none, none, none, none] [] rfl rfl ?_
      exact wk_J8_removeTreeNode_b109 C Rr N _ _ _ _ _ _ _ _ w
    · have w := w.2 a370 u369
      refine g_aload 104 rfl C dJ8_removeTreeNode_102 rfl ?_
      refine g_callV (As := []) (T := [7]) (st := []) "java/util/HashMap$TreeNode" 107 rfl C dJ8_removeTreeNode_104 q400 q401 q402 q21 q403 rfl okn_0e0e18 (by decide) (by decide) (Nat.le_of_ble_eq_true rfl) e368 (fun q => tC rfl q) rfl (ct_J8_root C.glob w) (fun r0 h373 p374 x375 _ => ?_)
      obtain ⟨r372, rfl, w⟩ := p374
      have w := w x375
      change Gd _ _ _ _ (vR [7] r372 :: [])
      refine g_astore 109 rfl C dJ8_removeTreeNode_107 (by decide) (rfl : _ = [some (vR [7] _), some (vR [2, 3] _), some (vR [51] _), some (vI _), none, some (vI _), some (vR [7] _), some (vR [7] _), none, none, none, none, none, none, none, none, none, none, none, none, none]) ?_
      refine g_sub [some none, some none, some none, some none, none, some none, some none, some none, none, none, none, none, none, none, none, none, none, none, none, none, none] [] rfl rfl ?_
      exact wk_J8_removeTreeNode_b109 C Rr N _ _ _ _ _ _ _ _ w
  · have w := w.1 u365
    exact g_vreturn C Rr dJ8_removeTreeNode_93 ⟨rfl, w⟩
def wp_J8_removeTreeNode_b76 (K : Hp → Prop) (h : Hp) (l0 : Option Nat) (l1 : Option Nat) (l2 : Option Nat) (l3 : Int32) (l5 : Int32) (l6 : Option Nat) (l7 : Option Nat) (l9 : Option Nat) (l10 : Option Nat) : Prop :=
  ((l9 = none → (wp_J8_removeTreeNode_b88 K h l0 l1 l2 l3 l5 l6 l7)) ∧ (∀ a333, l9 = some a333 → (∀ h334, h334 = wR h 9 a333 l10 → (wp_J8_removeTreeNode_b88 K h334 l0 l1 l2 l3 l5 l6 l7))))
set_option maxHeartbeats 4000000 in
theorem wk_J8_removeTreeNode_b76 {X : Fx} {K : Hp → Prop} (C : Cx X cJ8_removeTreeNode yJ8_removeTreeNode.cls 21 6) (Rr : Rx X (Option.none : Option Jvm.ClassFile.FieldType) (pV K)) (N : Nm X yJ8_removeTreeNode.name) (h : Hp) (l0 : Option Nat) (l1 : Option Nat) (l2 : Option Nat) (l3 : Int32) (l5 : Int32) (l6 : Option Nat) (l7 : Option Nat) (l9 : Option Nat) (l10 : Option Nat) (w : wp_J8_removeTreeNode_b76 K h l0 l1 l2 l3 l5 l6 l7 l9 l10) : Gd X h 76 [some (vR [7] l0), some (vR [2, 3] l1), some (vR [51] l2), some (vI l3), none, some (vI l5), some (vR [7] l6), some (vR [7] l7), none, some (vR [7] l9), some (vR [7] l10), none, none, none, none, none, none, none, none, none, none] [] := by
  unfold wp_J8_removeTreeNode_b76 at w
  refine g_aload 78 rfl C dJ8_removeTreeNode_76 rfl ?_
  refine g_ifnull 81 88 rfl C dJ8_removeTreeNode_78 rfl (fun u332 => ?_) (fun a333 u332 => ?_)
  · have w := w.1 u332
    refine g_sub [some none, some none, some none, some none, none, some none, some none, some none, none, none, none, none, none, none, none, none, none, none, none, none, none] [] rfl rfl ?_
    exact wk_J8_removeTreeNode_b88 C Rr N _ _ _ _ _ _ _ _ w
  · have w := w.2 a333 u332
    refine g_aload 83 rfl C dJ8_removeTreeNode_81 rfl ?_
    refine g_aload 85 rfl C dJ8_removeTreeNode_83 rfl ?_
    refine g_putR 88 rfl C dJ8_removeTreeNode_85 fl_HashMap_TreeNode_19 rfl rfl rfl u332 rfl ?_
    have w := w _ rfl
    refine g_sub [some none, some none, some none, some none, none, some none, some none, some none, none, none, none, none, none, none, none, none, none, none, none, none, none] [] rfl rfl ?_
    exact wk_J8_removeTreeNode_b88 C Rr N _ _ _ _ _ _ _ _ w
def wp_J8_removeTreeNode (h : Hp) (x0 : Option Nat) (x1 : Option Nat) (x2 : Option Nat) (x3 : Int32) (K : Hp → Prop) : Prop :=
  ((x2 = none → (wp_J8_removeTreeNode_b12 K h)) ∧ (∀ a308, x2 = some a308 → (ln h a308 < 2 ^ 26 → ((¬ (nI (ln h a308)) = 0 → (∃ a311, x0 = some a311 ∧ (∃ j313, (((nI (ln h a308)) - 1) &&& (it h 0 a311)) = nI j313 ∧ j313 < ln h a308 ∧ ((∀ a, (rf h (100 + j313) a308) = some a → kd h a ∈ [7]) ∧ ((∀ a, (rf h 3 a311) = some a → kd h a ∈ [7]) ∧ (((rf h 9 a311) = none → (∃ j320, (((nI (ln h a308)) - 1) &&& (it h 0 a311)) = nI j320 ∧ j320 < ln h a308 ∧ ∀ h323, h323 = wR h (100 + j320) a308 (rf h 3 a311) → (wp_J8_removeTreeNode_b76 K h323 x0 x1 x2 x3 (((nI (ln h a308)) - 1) &&& (it h 0 a311)) (rf h 3 a311) (rf h (100 + j313) a308) (rf h 3 a311) (rf h 9 a311)))) ∧ (∀ a319, (rf h 9 a311) = some a319 → (∀ h324, h324 = wR h 3 a319 (rf h 3 a311) → (wp_J8_removeTreeNode_b76 K h324 x0 x1 x2 x3 (((nI (ln h a308)) - 1) &&& (it h 0 a311)) (rf h (100 + j313) a308) (rf h (100 + j313) a308) (rf h 3 a311) (rf h 9 a311)))))))))) ∧ ((nI (ln h a308)) = 0 → (wp_J8_removeTreeNode_b12 K h))))))
set_option maxHeartbeats 4000000 in
theorem wk_J8_removeTreeNode {X : Fx} {K : Hp → Prop} (C : Cx X cJ8_removeTreeNode yJ8_removeTreeNode.cls 21 6) (Rr : Rx X (Option.none : Option Jvm.ClassFile.FieldType) (pV K)) (N : Nm X yJ8_removeTreeNode.name) (h : Hp) (x0 : Option Nat) (x1 : Option Nat) (x2 : Option Nat) (x3 : Int32) (w : wp_J8_removeTreeNode h x0 x1 x2 x3 K) : Gd X h 0 [some (vR [7] x0), some (vR [2, 3] x1), some (vR [51] x2), some (vI x3), none, none, none, none, none, none, none, none, none, none, none, none, none, none, none, none, none] [] := by
  unfold wp_J8_removeTreeNode at w
  refine g_aload_n 1 rfl C dJ8_removeTreeNode_0 rfl ?_
  refine g_ifnull 4 12 rfl C dJ8_removeTreeNode_1 rfl (fun u307 => ?_) (fun a308 u307 => ?_)
  · have w := w.1 u307
    refine g_sub [none, none, none, none, none, none, none, none, none, none, none, none, none, none, none, none, none, none, none, none, none] [] rfl rfl ?_
    exact wk_J8_removeTreeNode_b12 C Rr N _ w
  · have w := w.2 a308 u307
    refine g_aload_n 5 rfl C dJ8_removeTreeNode_4 rfl ?_
    refine g_alen 6 rfl C dJ8_removeTreeNode_5 u307 rfl (fun u309 => ?_)
    have w := w u309
    refine g_dup 7 rfl C dJ8_removeTreeNode_6 rfl ?_
    refine g_istore 9 rfl C dJ8_removeTreeNode_7 (by decide) (rfl : _ = [some (vR [7] _), some (vR [2, 3] _), some (vR [51] _), some (vI _), some (vI _), none, none, none, none, none, none, none, none, none, none, none, none, none, none, none, none]) ?_
    refine g_if_ne 12 13 rfl C dJ8_removeTreeNode_9 rfl (fun u310 => ?_) (fun u310 => ?_)
    · have w := w.1 u310
      refine g_iload 15 rfl C dJ8_removeTreeNode_13 rfl ?_
      refine g_iconst 16 rfl C dJ8_removeTreeNode_15 1 rfl ?_
      refine g_isub 17 rfl C dJ8_removeTreeNode_16 ?_
      refine g_aload_n 18 rfl C dJ8_removeTreeNode_17 rfl ?_
      obtain ⟨a311, e312, w⟩ := w
      refine g_getI 21 rfl C dJ8_removeTreeNode_18 fl_HashMap_TreeNode_15 rfl e312 rfl ?_
      refine g_iand 22 rfl C dJ8_removeTreeNode_21 ?_
      refine g_istore 24 rfl C dJ8_removeTreeNode_22 (by decide) (rfl : _ = [some (vR [7] _), some (vR [2, 3] _), some (vR [51] _), some (vI _), some (vI _), some (vI _), none, none, none, none, none, none, none, none, none, none, none, none, none, none, none]) ?_
      refine g_aload_n 25 rfl C dJ8_removeTreeNode_24 rfl ?_
      refine g_iload 27 rfl C dJ8_removeTreeNode_25 rfl ?_
      obtain ⟨j313, e314, e315, w⟩ := w
      refine g_aaload 51 28 rfl C dJ8_removeTreeNode_27 (by decide) u307 e314 e315 ?_
      obtain ⟨k316, w⟩ := w
      refine g_cast [7] 31 rfl C dJ8_removeTreeNode_28 q227 co_HashMap_TreeNode_7 (fun a q _ => k316 a q) ?_
      refine g_astore 33 rfl C dJ8_removeTreeNode_31 (by decide) (rfl : _ = [some (vR [7] _), some (vR [2, 3] _), some (vR [51] _), some (vI _), some (vI _), some (vI _), some (vR [7] _), none, none, none, none, none, none, none, none, none, none, none, none, none, none]) ?_
      refine g_aload 35 rfl C dJ8_removeTreeNode_33 rfl ?_
      refine g_astore 37 rfl C dJ8_removeTreeNode_35 (by decide) (rfl : _ = [some (vR [7] _), some (vR [2, 3] _), some (vR [51] _), some (vI _), some (vI _), some (vI _), some (vR [7] _), some (vR [7] _), none, none, none, none, none, none, none, none, none, none, none, none, none]) ?_
      refine g_aload_n 38 rfl C dJ8_removeTreeNode_37 rfl ?_
      refine g_getR 41 rfl C dJ8_removeTreeNode_38 fl_HashMap_TreeNode_22 rfl e312 rfl ?_
      obtain ⟨k317, w⟩ := w
      refine g_cast [7] 44 rfl C dJ8_removeTreeNode_41 q227 co_HashMap_TreeNode_7 (fun a q _ => k317 a q) ?_
      refine g_astore 46 rfl C dJ8_removeTreeNode_44 (by decide) (rfl : _ = [some (vR [7] _), some (vR [2, 3] _), some (vR [51] _), some (vI _), some (vI _), some (vI _), some (vR [7] _), some (vR [7] _), none, some (vR [7] _), none, none, none, none, none, none, none, none, none, none, none]) ?_
      refine g_aload_n 47 rfl C dJ8_removeTreeNode_46 rfl ?_
      refine g_getR 50 rfl C dJ8_removeTreeNode_47 fl_HashMap_TreeNode_19 rfl e312 rfl ?_
      refine g_astore 52 rfl C dJ8_removeTreeNode_50 (by decide) (rfl : _ = [some (vR [7] _), some (vR [2, 3] _), some (vR [51] _), some (vI _), some (vI _), some (vI _), some (vR [7] _), some (vR [7] _), none, some (vR [7] _), some (vR [7] _), none, none, none, none, none, none, none, none, none, none]) ?_
      refine g_aload 54 rfl C dJ8_removeTreeNode_52 rfl ?_
      refine g_ifnonnull 57 69 rfl C dJ8_removeTreeNode_54 rfl (fun a319 u318 => ?_) (fun u318 => ?_)
      · have w := w.2 a319 u318
        refine g_aload 71 rfl C dJ8_removeTreeNode_69 rfl ?_
        refine g_aload 73 rfl C dJ8_removeTreeNode_71 rfl ?_
        refine g_putR 76 rfl C dJ8_removeTreeNode_73 fl_HashMap_TreeNode_22 rfl rfl rfl u318 rfl ?_
        have w := w _ rfl
        refine g_sub [some none, some none, some none, some none, none, some none, some none, some none, none, some none, some none, none, none, none, none, none, none, none, none, none, none] [] rfl rfl ?_
        exact wk_J8_removeTreeNode_b76 C Rr N _ _ _ _ _ _ _ _ _ _ w
      · have w := w.1 u318
        refine g_aload_n 58 rfl C dJ8_removeTreeNode_57 rfl ?_
        refine g_iload 60 rfl C dJ8_removeTreeNode_58 rfl ?_
        refine g_aload 62 rfl C dJ8_removeTreeNode_60 rfl ?_
        refine g_dup 63 rfl C dJ8_removeTreeNode_62 rfl ?_
        refine g_astore 65 rfl C dJ8_removeTreeNode_63 (by decide) (rfl : _ = [some (vR [7] _), some (vR [2, 3] _), some (vR [51] _), some (vI _), some (vI _), some (vI _), some (vR [7] _), some (vR [7] _), none, some (vR [7] _), some (vR [7] _), none, none, none, none, none, none, none, none, none, none]) ?_
        obtain ⟨j320, e321, e322, w⟩ := w
        refine g_aastore 51 66 rfl C dJ8_removeTreeNode_65 (by decide) rfl u307 e321 e322 ?_
        have w := w _ rfl
        refine g_goto 76 C dJ8_removeTreeNode_66 rfl ?_
        refine g_sub [some none, some none, some none, some none, none, some none, some none, some none, none, some none, some none, none, none, none, none, none, none, none, none, none, none] [] rfl rfl ?_
        exact wk_J8_removeTreeNode_b76 C Rr N _ _ _ _ _ _ _ _ _ _ w
    · have w := w.2 u310
      refine g_sub [none, none, none, none, none, none, none, none, none, none, none, none, none, none, none, none, none, none, none, none, none] [] rfl rfl ?_
      exact wk_J8_removeTreeNode_b12 C Rr N _ w
theorem ct_J8_removeTreeNode {E : Gx} (GE : Glob E) {h : Hp} {x0 : Option Nat} {x1 : Option Nat} {x2 : Option Nat} {x3 : Int32} {K : Hp → Prop} (w : wp_J8_removeTreeNode h x0 x1 x2 x3 K) : Ct E yJ8_removeTreeNode cJ8_removeTreeNode 21 (Option.none : Option Jvm.ClassFile.FieldType) 6 [vR [7] x0, vR [2, 3] x1, vR [51] x2, vI x3] h (pV K) :=
  Ct.of GE (by decide +kernel) (by simp [lvA, t2]) rfl (fun X hX C Rr N => wk_J8_removeTreeNode C Rr N h x0 x1 x2 x3 w)
def wp_J1_removeNode_b286 (K : Option Nat → Hp → Prop) (h : Hp) (l10 : Option Nat) : Prop :=
  (K l10 h)
set_option maxHeartbeats 4000000 in
theorem wk_J1_removeNode_b286 {X : Fx} {K : Option Nat → Hp → Prop} (C : Cx X cJ1_removeNode yJ1_removeNode.cls 14 7) (Rr : Rx X (Option.some (Jvm.ClassFile.FieldType.object "java/util/HashMap$Node")) (pR [5, 6, 7] K)) (N : Nm X yJ1_removeNode.name) (h : Hp) (l10 : Option Nat) (w : wp_J1_removeNode_b286 K h l10) : Gd X h 286 [none, none, none, none, none, none, none, none, none, none, some (vR [5, 6, 7] l10), none, none, none] [] := by
  unfold wp_J1_removeNode_b286 at w
  refine g_aload 288 rfl C dJ1_removeNode_286 rfl ?_
  exact g_areturn [5, 6, 7] C Rr rfl dJ1_removeNode_288 rfl ⟨_, rfl, w⟩
def wp_J1_removeNode_b260 (K : Option Nat → Hp → Prop) (h : Hp) (l0 : Option Nat) (l10 : Option Nat) : Prop :=
  (∃ a221, l0 = some a221 ∧ (∀ h223, h223 = wI h 16 a221 ((it h 16 a221) + 1) → (∀ h224, h224 = wI h223 15 a221 ((it h223 15 a221) - 1) → ((kd h224 a221 = 2 ∧ (wp_J1_afterNodeRemoval h224 l0 l10 (fun h227 => Ex h224 h227 → (wp_J1_removeNode_b286 K h227 l10)))) ∨ (kd h224 a221 = 3 ∧ (wp_J2_afterNodeRemoval h224 l0 l10 (fun h232 => Ex h224 h232 → (wp_J1_removeNode_b286 K h232 l10))))))))
set_option maxHeartbeats 4000000 in
theorem wk_J1_removeNode_b260 {X : Fx} {K : Option Nat → Hp → Prop} (C : Cx X cJ1_removeNode yJ1_removeNode.cls 14 7) (Rr : Rx X (Option.some (Jvm.ClassFile.FieldType.object "java/util/HashMap$Node")) (pR [5, 6, 7] K)) (N : Nm X yJ1_removeNode.name) (h : Hp) (l0 : Option Nat) (l10 : Option Nat) (w : wp_J1_removeNode_b260 K h l0 l10) : Gd X h 260 [some (vR [2, 3] l0), none, none, none, none, none, none, none, none, none, some (vR [5, 6, 7] l10), none, none, none] [] := by
  unfold wp_J1_removeNode_b260 at w
  refine g_aload_n 261 rfl C dJ1_removeNode_260 rfl ?_
  refine g_dup 262 rfl C dJ1_removeNode_261 rfl ?_
  obtain ⟨a221, e222, w⟩ := w
  refine g_getI 265 rfl C dJ1_removeNode_262 fl_HashMap_202 rfl e222 rfl ?_
  refine g_iconst 266 rfl C dJ1_removeNode_265 1 rfl ?_
  refine g_iadd 267 rfl C dJ1_removeNode_266 ?_
  refine g_putI 270 rfl C dJ1_removeNode_267 fl_HashMap_202 rfl rfl e222 rfl ?_
  have w := w _ rfl
  refine g_aload_n 271 rfl C dJ1_removeNode_270 rfl ?_
  refine g_dup 272 rfl C dJ1_removeNode_271 rfl ?_
  refine g_getI 275 rfl C dJ1_removeNode_272 fl_HashMap_156 rfl e222 rfl ?_
  refine g_iconst 276 rfl C dJ1_removeNode_275 1 rfl ?_
  refine g_isub 277 rfl C dJ1_removeNode_276 ?_
  refine g_putI 280 rfl C dJ1_removeNode_277 fl_HashMap_156 rfl rfl e222 rfl ?_
  have w := w _ rfl
  refine g_aload_n 281 rfl C dJ1_removeNode_280 rfl ?_
  refine g_aload 283 rfl C dJ1_removeNode_281 rfl ?_
  rcases w with w | w
  · obtain ⟨k225, w⟩ := w
    refine g_callU (As := [vR [5, 6, 7] _]) (T := [2, 3]) (st := []) "java/util/HashMap" 286 rfl C dJ1_removeNode_283 q557 q560 dcl_7bd56d q559 q558 q11 q564 okn_19db86 (by decide) (by decide) (Nat.le_of_ble_eq_true rfl) e222 (fun _ => kC rfl k225) rfl (ct_J1_afterNodeRemoval C.glob w) (fun r0 h227 p228 x229 _ => ?_)
    obtain ⟨rfl, w⟩ := p228
    have w := w x229
    change Gd _ _ _ _ []
    refine g_sub [none, none, none, none, none, none, none, none, none, none, some none, none, none, none] [] rfl rfl ?_
    exact wk_J1_removeNode_b286 C Rr N _ _ w
  · obtain ⟨k230, w⟩ := w
    refine g_nar 1 [3] rfl e222 (by rw [k230]; decide) ?_
    refine g_callU (As := [vR [5, 6, 7] _]) (T := [3]) (st := []) "java/util/LinkedHashMap" 286 rfl C dJ1_removeNode_283 q557 q560 dcl_7bd56d q561 q562 q12 q563 okn_19db86 (by decide) (by decide) (Nat.le_of_ble_eq_true rfl) e222 (fun _ => kC rfl k230) rfl (ct_J2_afterNodeRemoval C.glob w) (fun r0 h232 p233 x234 _ => ?_)
    obtain ⟨rfl, w⟩ := p233
    have w := w x234
    change Gd _ _ _ _ []
    refine g_sub [none, none, none, none, none, none, none, none, none, none, some none, none, none, none] [] rfl rfl ?_
    exact wk_J1_removeNode_b286 C Rr N _ _ w
def wp_J1_removeNode_b206 (K : Option Nat → Hp → Prop) (h : Hp) (l0 : Option Nat) (l5 : Int32) (l6 : Option Nat) (l7 : Option Nat) (l9 : Int32) (l10 : Option Nat) : Prop :=
  ((∀ a247, l10 = some a247 → kd h a247 ∈ [7] → ((∀ a, l10 = some a → kd h a ∈ [7]) ∧ (wp_J8_removeTreeNode h l10 l0 l6 l5 (fun h253 => Ex h h253 → (wp_J1_removeNode_b260 K h253 l0 l10))))) ∧ (∀ a247, l10 = some a247 → kd h a247 ∈ [5, 6] → ((¬ l10 = l7 → (∃ a257, l7 = some a257 ∧ (∀ h259, h259 = wR h 3 a257 (rf h 3 a247) → (wp_J1_removeNode_b260 K h259 l0 l10)))) ∧ (l10 = l7 → (∃ a260, l6 = some a260 ∧ (∃ j262, l9 = nI j262 ∧ j262 < ln h a260 ∧ ∀ h265, h265 = wR h (100 + j262) a260 (rf h 3 a247) → (wp_J1_removeNode_b260 K h265 l0 l10)))))) ∧ (l10 = none → ((¬ l10 = l7 → False) ∧ (l10 = l7 → False))))
set_option maxHeartbeats 4000000 in
theorem wk_J1_removeNode_b206 {X : Fx} {K : Option Nat → Hp → Prop} (C : Cx X cJ1_removeNode yJ1_removeNode.cls 14 7) (Rr : Rx X (Option.some (Jvm.ClassFile.FieldType.object "java/util/HashMap$Node")) (pR [5, 6, 7] K)) (N : Nm X yJ1_removeNode.name) (h : Hp) (l0 : Option Nat) (l5 : Int32) (l6 : Option Nat) (l7 : Option Nat) (l9 : Int32) (l10 : Option Nat) (w : wp_J1_removeNode_b206 K h l0 l5 l6 l7 l9 l10) : Gd X h 206 [some (vR [2, 3] l0), none, none, none, none, some (vI l5), some (vR [51] l6), some (vR [5, 6, 7] l7), none, some (vI l9), some (vR [5, 6, 7] l10), none, none, none] [] := by
  unfold wp_J1_removeNode_b206 at w
  refine g_aload 208 rfl C dJ1_removeNode_206 rfl ?_
  refine g_inst [7] [5, 6] 211 rfl C dJ1_removeNode_208 q222 co_HashMap_TreeNode_7 cno_HashMap_TreeNode_5_6 rfl (fun a247 u248 k249 => ?_) (fun a247 u248 k249 => ?_) (fun u248 => ?_)
  · have w := w.1 a247 u248 k249
    refine g_if_eq 214 230 rfl C dJ1_removeNode_211 rfl (fun q => absurd q (by decide)) (fun _ => ?_)
    refine g_aload 216 rfl C dJ1_removeNode_214 rfl ?_
    obtain ⟨k250, w⟩ := w
    refine g_cast [7] 219 rfl C dJ1_removeNode_216 q222 co_HashMap_TreeNode_7 (fun a q _ => k250 a q) ?_
    refine g_aload_n 220 rfl C dJ1_removeNode_219 rfl ?_
    refine g_aload 222 rfl C dJ1_removeNode_220 rfl ?_
    refine g_iload 224 rfl C dJ1_removeNode_222 rfl ?_
    refine g_callV (As := [vR [2, 3] _, vR [51] _, vI _]) (T := [7]) (st := []) "java/util/HashMap$TreeNode" 227 rfl C dJ1_removeNode_224 q550 q551 q552 q21 q553 rfl okn_dd7cda (by decide) (by decide) (Nat.le_of_ble_eq_true rfl) u248 (fun q => tC rfl q) rfl (ct_J8_removeTreeNode C.glob w) (fun r0 h253 p254 x255 _ => ?_)
    obtain ⟨rfl, w⟩ := p254
    have w := w x255
    change Gd _ _ _ _ []
    refine g_goto 260 C dJ1_removeNode_227 rfl ?_
    refine g_sub [some none, none, none, none, none, none, none, none, none, none, some none, none, none, none] [] rfl rfl ?_
    exact wk_J1_removeNode_b260 C Rr N _ _ _ w
  · have w := w.2.1 a247 u248 k249
    refine g_if_eq 214 230 rfl C dJ1_removeNode_211 rfl (fun _ => ?_) (fun q => absurd q (by decide))
    refine g_aload 232 rfl C dJ1_removeNode_230 rfl ?_
    refine g_aload 234 rfl C dJ1_removeNode_232 rfl ?_
    refine g_acmp_ne 237 250 rfl C dJ1_removeNode_234 rfl (fun u256 => ?_) (fun u256 => ?_)
    · have w := w.1 u256
      refine g_aload 252 rfl C dJ1_removeNode_250 rfl ?_
      refine g_aload 254 rfl C dJ1_removeNode_252 rfl ?_
      refine g_getR 257 rfl C dJ1_removeNode_254 fl_HashMap_177 rfl u248 rfl ?_
      obtain ⟨a257, e258, w⟩ := w
      refine g_putR 260 rfl C dJ1_removeNode_257 fl_HashMap_177 rfl rfl rfl e258 rfl ?_
      have w := w _ rfl
      refine g_sub [some none, none, none, none, none, none, none, none, none, none, some none, none, none, none] [] rfl rfl ?_
      exact wk_J1_removeNode_b260 C Rr N _ _ _ w
    · have w := w.2 u256
      refine g_aload 239 rfl C dJ1_removeNode_237 rfl ?_
      refine g_iload 241 rfl C dJ1_removeNode_239 rfl ?_
      refine g_aload 243 rfl C dJ1_removeNode_241 rfl ?_
      refine g_getR 246 rfl C dJ1_removeNode_243 fl_HashMap_177 rfl u248 rfl ?_
      obtain ⟨a260, e261, w⟩ := w
      obtain ⟨j262, e263, e264, w⟩ := w
      refine g_aastore 51 247 rfl C dJ1_removeNode_246 (by decide) rfl e261 e263 e264 ?_
      have w := w _ rfl
      refine g_goto 260 C dJ1_removeNode_247 rfl ?_
      refine g_sub [some none, none, none, none, none, none, none, none, none, none, some none, none, none, none] [] rfl rfl ?_
      exact wk_J1_removeNode_b260 C Rr N _ _ _ w
  · have w := w.2.2 u248
    refine g_if_eq 214 230 rfl C dJ1_removeNode_211 rfl (fun _ => ?_) (fun q => absurd q (by decide))
    refine g_aload 232 rfl C dJ1_removeNode_230 rfl ?_
    refine g_aload 234 rfl C dJ1_removeNode_232 rfl ?_
    refine g_acmp_ne 237 250 rfl C dJ1_removeNode_234 rfl (fun u266 => ?_) (fun u266 => ?_)
    · have w := w.1 u266
      refine g_aload 252 rfl C dJ1_removeNode_250 rfl ?_
      refine g_aload 254 rfl C dJ1_removeNode_252 rfl ?_
      exact w.elim
    · have w := w.2 u266
      refine g_aload 239 rfl C dJ1_removeNode_237 rfl ?_
      refine g_iload 241 rfl C dJ1_removeNode_239 rfl ?_
      refine g_aload 243 rfl C dJ1_removeNode_241 rfl ?_
      exact w.elim
def wp_J1_removeNode_b289 (K : Option Nat → Hp → Prop) (h : Hp)  : Prop :=
  (K none h)
set_option maxHeartbeats 4000000 in
theorem wk_J1_removeNode_b289 {X : Fx} {K : Option Nat → Hp → Prop} (C : Cx X cJ1_removeNode yJ1_removeNode.cls 14 7) (Rr : Rx X (Option.some (Jvm.ClassFile.FieldType.object "java/util/HashMap$Node")) (pR [5, 6, 7] K)) (N : Nm X yJ1_removeNode.name) (h : Hp)  (w : wp_J1_removeNode_b289 K h ) : Gd X h 289 [none, none, none, none, none, none, none, none, none, none, none, none, none, none] [] := by
  unfold wp_J1_removeNode_b289 at w
  refine g_null 290 rfl C dJ1_removeNode_289 ?_
  exact g_areturn [5, 6, 7] C Rr rfl dJ1_removeNode_290 rfl ⟨_, rfl, w⟩
def wp_J1_removeNode_b171 (K : Option Nat → Hp → Prop) (h : Hp) (l0 : Option Nat) (l3 : Option Nat) (l4 : Int32) (l5 : Int32) (l6 : Option Nat) (l7 : Option Nat) (l9 : Int32) (l10 : Option Nat) : Prop :=
  ((l10 = none → (wp_J1_removeNode_b289 K h)) ∧ (∀ a236, l10 = some a236 → ((l4 = 0 → (wp_J1_removeNode_b206 K h l0 l5 l6 l7 l9 l10)) ∧ (¬ l4 = 0 → (((rf h 2 a236) = l3 → (wp_J1_removeNode_b206 K h l0 l5 l6 l7 l9 l10)) ∧ (¬ (rf h 2 a236) = l3 → ((l3 = none → (wp_J1_removeNode_b289 K h)) ∧ (∀ a240, l3 = some a240 → (wp_J5_equals h l3 (rf h 2 a236) (fun r242 h243 => Ex h h243 → ((r242 = 0 → (wp_J1_removeNode_b289 K h243)) ∧ (¬ r242 = 0 → (wp_J1_removeNode_b206 K h243 l0 l5 l6 l7 l9 l10)))))))))))))
set_option maxHeartbeats 4000000 in
theorem wk_J1_removeNode_b171 {X : Fx} {K : Option Nat → Hp → Prop} (C : Cx X cJ1_removeNode yJ1_removeNode.cls 14 7) (Rr : Rx X (Option.some (Jvm.ClassFile.FieldType.object "java/util/HashMap$Node")) (pR [5, 6, 7] K)) (N : Nm X yJ1_removeNode.name) (h : Hp) (l0 : Option Nat) (l3 : Option Nat) (l4 : Int32) (l5 : Int32) (l6 : Option Nat) (l7 : Option Nat) (l9 : Int32) (l10 : Option Nat) (w : wp_J1_removeNode_b171 K h l0 l3 l4 l5 l6 l7 l9 l10) : Gd X h 171 [some (vR [2, 3] l0), none, none, some (vR [4, 60] l3), some (vI l4), some (vI l5), some (vR [51] l6), some (vR [5, 6, 7] l7), none, some (vI l9), some (vR [5, 6, 7] l10), none, none, none] [] := by
  unfold wp_J1_removeNode_b171 at w
  refine g_aload 173 rfl C dJ1_removeNode_171 rfl ?_
  refine g_ifnull 176 289 rfl C dJ1_removeNode_173 rfl (fun u235 => ?_) (fun a236 u235 => ?_)
  · have w := w.1 u235
    refine g_sub [none, none, none, none, none, none, none, none, none, none, none, none, none, none] [] rfl rfl ?_
    exact wk_J1_removeNode_b289 C Rr N _ w
  · have w := w.2 a236 u235
    refine g_iload 178 rfl C dJ1_removeNode_176 rfl ?_
    refine g_if_eq 181 206 rfl C dJ1_removeNode_178 rfl (fun u237 => ?_) (fun u237 => ?_)
    · have w := w.1 u237
      refine g_sub [some none, none, none, none, none, some none, some none, some none, none, some none, some none, none, none, none] [] rfl rfl ?_
      exact wk_J1_removeNode_b206 C Rr N _ _ _ _ _ _ _ w
    · have w := w.2 u237
      refine g_aload 183 rfl C dJ1_removeNode_181 rfl ?_
      refine g_getR 186 rfl C dJ1_removeNode_183 fl_HashMap_162 rfl u235 rfl ?_
      refine g_dup 187 rfl C dJ1_removeNode_186 rfl ?_
      refine g_astore 189 rfl C dJ1_removeNode_187 (by decide) (rfl : _ = [some (vR [2, 3] _), none, none, some (vR [4, 60] _), some (vI _), some (vI _), some (vR [51] _), some (vR [5, 6, 7] _), none, some (vI _), some (vR [5, 6, 7] _), none, none, some (vR [4, 60] _)]) ?_
      refine g_aload_n 190 rfl C dJ1_removeNode_189 rfl ?_
      refine g_acmp_eq 193 206 rfl C dJ1_removeNode_190 rfl (fun u238 => ?_) (fun u238 => ?_)
      · have w := w.1 u238
        refine g_sub [some none, none, none, none, none, some none, some none, some none, none, some none, some none, none, none, none] [] rfl rfl ?_
        exact wk_J1_removeNode_b206 C Rr N _ _ _ _ _ _ _ w
      · have w := w.2 u238
        refine g_aload_n 194 rfl C dJ1_removeNode_193 rfl ?_
        refine g_ifnull 197 289 rfl C dJ1_removeNode_194 rfl (fun u239 => ?_) (fun a240 u239 => ?_)
        · have w := w.1 u239
          refine g_sub [none, none, none, none, none, none, none, none, none, none, none, none, none, none] [] rfl rfl ?_
          exact wk_J1_removeNode_b289 C Rr N _ w
        · have w := w.2 a240 u239
          refine g_aload_n 198 rfl C dJ1_removeNode_197 rfl ?_
          refine g_aload 200 rfl C dJ1_removeNode_198 rfl ?_
          refine g_callU (As := [vR [4, 60] _]) (T := [4, 60]) (st := []) "java/lang/Integer" 203 rfl C dJ1_removeNode_200 q382 q384 dcl_e59518 q388 q389 q15 q390 okn_ad8bbc (by decide) (by decide) (Nat.le_of_ble_eq_true rfl) u239 (fun q => tC rfl q) rfl (ct_J5_equals C.glob w) (fun r0 h243 p244 x245 _ => ?_)
          obtain ⟨r242, rfl, w⟩ := p244
          have w := w x245
          change Gd _ _ _ _ (vI r242 :: [])
          refine g_if_eq 206 289 rfl C dJ1_removeNode_203 rfl (fun u246 => ?_) (fun u246 => ?_)
          · have w := w.1 u246
            refine g_sub [none, none, none, none, none, none, none, none, none, none, none, none, none, none] [] rfl rfl ?_
            exact wk_J1_removeNode_b289 C Rr N _ w
          · have w := w.2 u246
            refine g_sub [some none, none, none, none, none, some none, some none, some none, none, some none, some none, none, none, none] [] rfl rfl ?_
            exact wk_J1_removeNode_b206 C Rr N _ _ _ _ _ _ _ w
def wp_J1_removeNode_b74 (K : Option Nat → Hp → Prop) (h : Hp) (l0 : Option Nat) (l3 : Option Nat) (l4 : Int32) (l5 : Int32) (l6 : Option Nat) (l7 : Option Nat) (l9 : Int32) : Prop :=
  (wp_J1_removeNode_b171 K h l0 l3 l4 l5 l6 l7 l9 l7)
set_option maxHeartbeats 4000000 in
theorem wk_J1_removeNode_b74 {X : Fx} {K : Option Nat → Hp → Prop} (C : Cx X cJ1_removeNode yJ1_removeNode.cls 14 7) (Rr : Rx X (Option.some (Jvm.ClassFile.FieldType.object "java/util/HashMap$Node")) (pR [5, 6, 7] K)) (N : Nm X yJ1_removeNode.name) (h : Hp) (l0 : Option Nat) (l3 : Option Nat) (l4 : Int32) (l5 : Int32) (l6 : Option Nat) (l7 : Option Nat) (l9 : Int32) (w : wp_J1_removeNode_b74 K h l0 l3 l4 l5 l6 l7 l9) : Gd X h 74 [some (vR [2, 3] l0), none, none, some (vR [4, 60] l3), some (vI l4), some (vI l5), some (vR [51] l6), some (vR [5, 6, 7] l7), none, some (vI l9), none, none, none, none] [] := by
  unfold wp_J1_removeNode_b74 at w
  refine g_aload 76 rfl C dJ1_removeNode_74 rfl ?_
  refine g_astore 78 rfl C dJ1_removeNode_76 (by decide) (rfl : _ = [some (vR [2, 3] _), none, none, some (vR [4, 60] _), some (vI _), some (vI _), some (vR [51] _), some (vR [5, 6, 7] _), none, some (vI _), some (vR [5, 6, 7] _), none, none, none]) ?_
  refine g_goto 171 C dJ1_removeNode_78 rfl ?_
  refine g_sub [some none, none, none, some none, some none, some none, some none, some none, none, some none, some none, none, none, none] [] rfl rfl ?_
  exact wk_J1_removeNode_b171 C Rr N _ _ _ _ _ _ _ _ _ w
def wp_J1_removeNode_b149 (K : Option Nat → Hp → Prop) (h : Hp) (l0 : Option Nat) (l3 : Option Nat) (l4 : Int32) (l5 : Int32) (l6 : Option Nat) (l7 : Option Nat) (l9 : Int32) (l11 : Option Nat) : Prop :=
  (wp_J1_removeNode_b171 K h l0 l3 l4 l5 l6 l7 l9 l11)
set_option maxHeartbeats 4000000 in
theorem wk_J1_removeNode_b149 {X : Fx} {K : Option Nat → Hp → Prop} (C : Cx X cJ1_removeNode yJ1_removeNode.cls 14 7) (Rr : Rx X (Option.some (Jvm.ClassFile.FieldType.object "java/util/HashMap$Node")) (pR [5, 6, 7] K)) (N : Nm X yJ1_removeNode.name) (h : Hp) (l0 : Option Nat) (l3 : Option Nat) (l4 : Int32) (l5 : Int32) (l6 : Option Nat) (l7 : Option Nat) (l9 : Int32) (l11 : Option Nat) (w : wp_J1_removeNode_b149 K h l0 l3 l4 l5 l6 l7 l9 l11) : Gd X h 149 [some (vR [2, 3] l0), none, none, some (vR [4, 60] l3), some (vI l4), some (vI l5), some (vR [51] l6), some (vR [5, 6, 7] l7), none, some (vI l9), none, some (vR [5, 6, 7] l11), none, none] [] := by
  unfold wp_J1_removeNode_b149 at w
  refine g_aload 151 rfl C dJ1_removeNode_149 rfl ?_
  refine g_astore 153 rfl C dJ1_removeNode_151 (by decide) (rfl : _ = [some (vR [2, 3] _), none, none, some (vR [4, 60] _), some (vI _), some (vI _), some (vR [51] _), some (vR [5, 6, 7] _), none, some (vI _), some (vR [5, 6, 7] _), some (vR [5, 6, 7] _), none, none]) ?_
  refine g_goto 171 C dJ1_removeNode_153 rfl ?_
  refine g_sub [some none, none, none, some none, some none, some none, some none, some none, none, some none, some none, none, none, none] [] rfl rfl ?_
  exact wk_J1_removeNode_b171 C Rr N _ _ _ _ _ _ _ _ _ w
def wp_J1_removeNode_b156 (G115 : Hp → Option Nat → Int32 → Option Nat → Option Nat → Int32 → Int32 → Option Nat → Option Nat → Int32 → Option Nat → Option Nat → Prop) (K : Option Nat → Hp → Prop) (h : Hp) (l0 : Option Nat) (l1 : Int32) (l2 : Option Nat) (l3 : Option Nat) (l4 : Int32) (l5 : Int32) (l6 : Option Nat) (l9 : Int32) (l10 : Option Nat) (l11 : Option Nat) : Prop :=
  (∃ a292, l11 = some a292 ∧ (((rf h 3 a292) = none → (wp_J1_removeNode_b171 K h l0 l3 l4 l5 l6 l11 l9 l10)) ∧ (∀ a295, (rf h 3 a292) = some a295 → (G115 h l0 l1 l2 l3 l4 l5 l6 l11 l9 l10 (rf h 3 a292)))))
set_option maxHeartbeats 4000000 in
theorem wk_J1_removeNode_b156 {X : Fx} {K : Option Nat → Hp → Prop} (C : Cx X cJ1_removeNode yJ1_removeNode.cls 14 7) (Rr : Rx X (Option.some (Jvm.ClassFile.FieldType.object "java/util/HashMap$Node")) (pR [5, 6, 7] K)) (N : Nm X yJ1_removeNode.name) {G115 : Hp → Option Nat → Int32 → Option Nat → Option Nat → Int32 → Int32 → Option Nat → Option Nat → Int32 → Option Nat → Option Nat → Prop} (k115 : ∀ (h : Hp) (l0 : Option Nat) (l1 : Int32) (l2 : Option Nat) (l3 : Option Nat) (l4 : Int32) (l5 : Int32) (l6 : Option Nat) (l7 : Option Nat) (l9 : Int32) (l10 : Option Nat) (l11 : Option Nat), G115 h l0 l1 l2 l3 l4 l5 l6 l7 l9 l10 l11 → Gd X h 115 [some (vR [2, 3] l0), some (vI l1), some (vR [4, 60] l2), some (vR [4, 60] l3), some (vI l4), some (vI l5), some (vR [51] l6), some (vR [5, 6, 7] l7), none, some (vI l9), some (vR [] l10), some (vR [5, 6, 7] l11), none, none] []) (h : Hp) (l0 : Option Nat) (l1 : Int32) (l2 : Option Nat) (l3 : Option Nat) (l4 : Int32) (l5 : Int32) (l6 : Option Nat) (l9 : Int32) (l10 : Option Nat) (l11 : Option Nat) (w : wp_J1_removeNode_b156 G115 K h l0 l1 l2 l3 l4 l5 l6 l9 l10 l11) : Gd X h 156 [some (vR [2, 3] l0), some (vI l1), some (vR [4, 60] l2), some (vR [4, 60] l3), some (vI l4), some (vI l5), some (vR [51] l6), none, none, some (vI l9), some (vR [] l10), some (vR [5, 6, 7] l11), none, none] [] := by
  unfold wp_J1_removeNode_b156 at w
  refine g_aload 158 rfl C dJ1_removeNode_156 rfl ?_
  refine g_astore 160 rfl C dJ1_removeNode_158 (by decide) (rfl : _ = [some (vR [2, 3] _), some (vI _), some (vR [4, 60] _), some (vR [4, 60] _), some (vI _), some (vI _), some (vR [51] _), some (vR [5, 6, 7] _), none, some (vI _), some (vR [] _), some (vR [5, 6, 7] _), none, none]) ?_
  refine g_aload 162 rfl C dJ1_removeNode_160 rfl ?_
  obtain ⟨a292, e293, w⟩ := w
  refine g_getR 165 rfl C dJ1_removeNode_162 fl_HashMap_177 rfl e293 rfl ?_
  refine g_dup 166 rfl C dJ1_removeNode_165 rfl ?_
  refine g_astore 168 rfl C dJ1_removeNode_166 (by decide) (rfl : _ = [some (vR [2, 3] _), some (vI _), some (vR [4, 60] _), some (vR [4, 60] _), some (vI _), some (vI _), some (vR [51] _), some (vR [5, 6, 7] _), none, some (vI _), some (vR [] _), some (vR [5, 6, 7] _), none, none]) ?_
  refine g_ifnonnull 171 115 rfl C dJ1_removeNode_168 rfl (fun a295 u294 => ?_) (fun u294 => ?_)
  · have w := w.2 a295 u294
    refine g_sub [some none, some none, some none, some none, some none, some none, some none, some none, none, some none, some none, some none, none, none] [] rfl rfl ?_
    exact k115 _ _ _ _ _ _ _ _ _ _ _ _ w
  · have w := w.1 u294
    refine g_sub [some none, none, none, some none, some none, some none, some none, some none, none, some none, some (some [5, 6, 7]), none, none, none] [] rfl rfl ?_
    exact wk_J1_removeNode_b171 C Rr N _ _ _ _ _ _ _ _ _ w
def wp_J1_removeNode_b115 (K : Option Nat → Hp → Prop) : Nat → Hp → Option Nat → Int32 → Option Nat → Option Nat → Int32 → Int32 → Option Nat → Option Nat → Int32 → Option Nat → Option Nat → Prop
  | 0 => fun _ _ _ _ _ _ _ _ _ _ _ _ => False
  | m9 + 1 => fun h l0 l1 l2 l3 l4 l5 l6 l7 l9 l10 l11 =>
    (∃ a280, l11 = some a280 ∧ ((¬ (it h 0 a280) = l1 → (wp_J1_removeNode_b156 (wp_J1_removeNode_b115 K m9) K h l0 l1 l2 l3 l4 l5 l6 l9 l10 l11)) ∧ ((it h 0 a280) = l1 → (((rf h 1 a280) = l2 → (wp_J1_removeNode_b149 K h l0 l3 l4 l5 l6 l7 l9 l11)) ∧ (¬ (rf h 1 a280) = l2 → ((l2 = none → (wp_J1_removeNode_b156 (wp_J1_removeNode_b115 K m9) K h l0 l1 l2 l3 l4 l5 l6 l9 l10 l11)) ∧ (∀ a285, l2 = some a285 → (wp_J5_equals h l2 (rf h 1 a280) (fun r287 h288 => Ex h h288 → ((r287 = 0 → (wp_J1_removeNode_b156 (wp_J1_removeNode_b115 K m9) K h288 l0 l1 l2 l3 l4 l5 l6 l9 l10 l11)) ∧ (¬ r287 = 0 → (wp_J1_removeNode_b149 K h288 l0 l3 l4 l5 l6 l7 l9 l11))))))))))))
set_option maxHeartbeats 4000000 in
theorem wk_J1_removeNode_b115 {X : Fx} {K : Option Nat → Hp → Prop} (C : Cx X cJ1_removeNode yJ1_removeNode.cls 14 7) (Rr : Rx X (Option.some (Jvm.ClassFile.FieldType.object "java/util/HashMap$Node")) (pR [5, 6, 7] K)) (N : Nm X yJ1_removeNode.name) : ∀ (n : Nat) (h : Hp) (l0 : Option Nat) (l1 : Int32) (l2 : Option Nat) (l3 : Option Nat) (l4 : Int32) (l5 : Int32) (l6 : Option Nat) (l7 : Option Nat) (l9 : Int32) (l10 : Option Nat) (l11 : Option Nat), wp_J1_removeNode_b115 K n h l0 l1 l2 l3 l4 l5 l6 l7 l9 l10 l11 → Gd X h 115 [some (vR [2, 3] l0), some (vI l1), some (vR [4, 60] l2), some (vR [4, 60] l3), some (vI l4), some (vI l5), some (vR [51] l6), some (vR [5, 6, 7] l7), none, some (vI l9), some (vR [] l10), some (vR [5, 6, 7] l11), none, none] [] := by
  intro n
  induction n with
  | zero => intro h l0 l1 l2 l3 l4 l5 l6 l7 l9 l10 l11 w; exact w.elim
  | succ n ih =>
    intro h l0 l1 l2 l3 l4 l5 l6 l7 l9 l10 l11 w
    unfold wp_J1_removeNode_b115 at w
    refine g_aload 117 rfl C dJ1_removeNode_115 rfl ?_
    obtain ⟨a280, e281, w⟩ := w
    refine g_getI 120 rfl C dJ1_removeNode_117 fl_HashMap_168 rfl e281 rfl ?_
    refine g_iload_n 121 rfl C dJ1_removeNode_120 rfl ?_
    refine g_icmp_ne 124 156 rfl C dJ1_removeNode_121 rfl (fun u282 => ?_) (fun u282 => ?_)
    · have w := w.1 u282
      refine g_sub [some none, some none, some none, some none, some none, some none, some none, none, none, some none, some none, some none, none, none] [] rfl rfl ?_
      exact wk_J1_removeNode_b156 C Rr N ih _ _ _ _ _ _ _ _ _ _ _ w
    · have w := w.2 u282
      refine g_aload 126 rfl C dJ1_removeNode_124 rfl ?_
      refine g_getR 129 rfl C dJ1_removeNode_126 fl_HashMap_170 rfl e281 rfl ?_
      refine g_dup 130 rfl C dJ1_removeNode_129 rfl ?_
      refine g_astore 132 rfl C dJ1_removeNode_130 (by decide) (rfl : _ = [some (vR [2, 3] _), some (vI _), some (vR [4, 60] _), some (vR [4, 60] _), some (vI _), some (vI _), some (vR [51] _), some (vR [5, 6, 7] _), none, some (vI _), some (vR [] _), some (vR [5, 6, 7] _), some (vR [4, 60] _), none]) ?_
      refine g_aload_n 133 rfl C dJ1_removeNode_132 rfl ?_
      refine g_acmp_eq 136 149 rfl C dJ1_removeNode_133 rfl (fun u283 => ?_) (fun u283 => ?_)
      · have w := w.1 u283
        refine g_sub [some none, none, none, some none, some none, some none, some none, some none, none, some none, none, some none, none, none] [] rfl rfl ?_
        exact wk_J1_removeNode_b149 C Rr N _ _ _ _ _ _ _ _ _ w
      · have w := w.2 u283
        refine g_aload_n 137 rfl C dJ1_removeNode_136 rfl ?_
        refine g_ifnull 140 156 rfl C dJ1_removeNode_137 rfl (fun u284 => ?_) (fun a285 u284 => ?_)
        · have w := w.1 u284
          refine g_sub [some none, some none, some none, some none, some none, some none, some none, none, none, some none, some none, some none, none, none] [] rfl rfl ?_
          exact wk_J1_removeNode_b156 C Rr N ih _ _ _ _ _ _ _ _ _ _ _ w
        · have w := w.2 a285 u284
          refine g_aload_n 141 rfl C dJ1_removeNode_140 rfl ?_
          refine g_aload 143 rfl C dJ1_removeNode_141 rfl ?_
          refine g_callU (As := [vR [4, 60] _]) (T := [4, 60]) (st := []) "java/lang/Integer" 146 rfl C dJ1_removeNode_143 q382 q384 dcl_e59518 q388 q389 q15 q390 okn_ad8bbc (by decide) (by decide) (Nat.le_of_ble_eq_true rfl) u284 (fun q => tC rfl q) rfl (ct_J5_equals C.glob w) (fun r0 h288 p289 x290 _ => ?_)
          obtain ⟨r287, rfl, w⟩ := p289
          have w := w x290
          change Gd _ _ _ _ (vI r287 :: [])
          refine g_if_eq 149 156 rfl C dJ1_removeNode_146 rfl (fun u291 => ?_) (fun u291 => ?_)
          · have w := w.1 u291
            refine g_sub [some none, some none, some none, some none, some none, some none, some none, none, none, some none, some none, some none, none, none] [] rfl rfl ?_
            exact wk_J1_removeNode_b156 C Rr N ih _ _ _ _ _ _ _ _ _ _ _ w
          · have w := w.2 u291
            refine g_sub [some none, none, none, some none, some none, some none, some none, some none, none, some none, none, some none, none, none] [] rfl rfl ?_
            exact wk_J1_removeNode_b149 C Rr N _ _ _ _ _ _ _ _ _ w
def wp_J1_removeNode_b81 (K : Option Nat → Hp → Prop) (h : Hp) (l0 : Option Nat) (l1 : Int32) (l2 : Option Nat) (l3 : Option Nat) (l4 : Int32) (l5 : Int32) (l6 : Option Nat) (l7 : Option Nat) (l9 : Int32) (l10 : Option Nat) : Prop :=
  (∃ a267, l7 = some a267 ∧ (((rf h 3 a267) = none → (wp_J1_removeNode_b171 K h l0 l3 l4 l5 l6 l7 l9 l10)) ∧ (∀ a270, (rf h 3 a267) = some a270 → ((kd h a267 ∈ [7] → ((∀ a, l7 = some a → kd h a ∈ [7]) ∧ (wp_J8_getTreeNode h l7 l1 l2 (fun r276 h277 => Ex h h277 → (wp_J1_removeNode_b171 K h277 l0 l3 l4 l5 l6 l7 l9 r276))))) ∧ (kd h a267 ∈ [5, 6] → (∃ n, wp_J1_removeNode_b115 K n h l0 l1 l2 l3 l4 l5 l6 l7 l9 l10 (rf h 3 a267)))))))
set_option maxHeartbeats 4000000 in
theorem wk_J1_removeNode_b81 {X : Fx} {K : Option Nat → Hp → Prop} (C : Cx X cJ1_removeNode yJ1_removeNode.cls 14 7) (Rr : Rx X (Option.some (Jvm.ClassFile.FieldType.object "java/util/HashMap$Node")) (pR [5, 6, 7] K)) (N : Nm X yJ1_removeNode.name) (h : Hp) (l0 : Option Nat) (l1 : Int32) (l2 : Option Nat) (l3 : Option Nat) (l4 : Int32) (l5 : Int32) (l6 : Option Nat) (l7 : Option Nat) (l9 : Int32) (l10 : Option Nat) (w : wp_J1_removeNode_b81 K h l0 l1 l2 l3 l4 l5 l6 l7 l9 l10) : Gd X h 81 [some (vR [2, 3] l0), some (vI l1), some (vR [4, 60] l2), some (vR [4, 60] l3), some (vI l4), some (vI l5), some (vR [51] l6), some (vR [5, 6, 7] l7), none, some (vI l9), some (vR [] l10), none, none, none] [] := by
  unfold wp_J1_removeNode_b81 at w
  refine g_aload 83 rfl C dJ1_removeNode_81 rfl ?_
  obtain ⟨a267, e268, w⟩ := w
  refine g_getR 86 rfl C dJ1_removeNode_83 fl_HashMap_177 rfl e268 rfl ?_
  refine g_dup 87 rfl C dJ1_removeNode_86 rfl ?_
  refine g_astore 89 rfl C dJ1_removeNode_87 (by decide) (rfl : _ = [some (vR [2, 3] _), some (vI _), some (vR [4, 60] _), some (vR [4, 60] _), some (vI _), some (vI _), some (vR [51] _), some (vR [5, 6, 7] _), none, some (vI _), some (vR [] _), some (vR [5, 6, 7] _), none, none]) ?_
  refine g_ifnull 92 171 rfl C dJ1_removeNode_89 rfl (fun u269 => ?_) (fun a270 u269 => ?_)
  · have w := w.1 u269
    refine g_sub [some none, none, none, some none, some none, some none, some none, some none, none, some none, some (some [5, 6, 7]), none, none, none] [] rfl rfl ?_
    exact wk_J1_removeNode_b171 C Rr N _ _ _ _ _ _ _ _ _ w
  · have w := w.2 a270 u269
    refine g_aload 94 rfl C dJ1_removeNode_92 rfl ?_
    refine g_inst [7] [5, 6] 97 rfl C dJ1_removeNode_94 q222 co_HashMap_TreeNode_7 cno_HashMap_TreeNode_5_6 rfl (fun a271 u272 k273 => ?_) (fun a271 u272 k273 => ?_) (fun u272 => absurd (u272.symm.trans e268) (fun z => by cases z))
    · have a271e := Option.some.inj (e268.symm.trans u272)
      subst a271e
      have w := w.1 k273
      refine g_if_eq 100 115 rfl C dJ1_removeNode_97 rfl (fun q => absurd q (by decide)) (fun _ => ?_)
      refine g_aload 102 rfl C dJ1_removeNode_100 rfl ?_
      obtain ⟨k274, w⟩ := w
      refine g_cast [7] 105 rfl C dJ1_removeNode_102 q222 co_HashMap_TreeNode_7 (fun a q _ => k274 a q) ?_
      refine g_iload_n 106 rfl C dJ1_removeNode_105 rfl ?_
      refine g_aload_n 107 rfl C dJ1_removeNode_106 rfl ?_
      refine g_callV (As := [vI _, vR [4, 60] _]) (T := [7]) (st := []) "java/util/HashMap$TreeNode" 110 rfl C dJ1_removeNode_107 q515 q516 q517 q21 q518 rfl okn_9ab985 (by decide) (by decide) (Nat.le_of_ble_eq_true rfl) e268 (fun q => tC rfl q) rfl (ct_J8_getTreeNode C.glob w) (fun r0 h277 p278 x279 _ => ?_)
      obtain ⟨r276, rfl, w⟩ := p278
      have w := w x279
      change Gd _ _ _ _ (vR [7] r276 :: [])
      refine g_astore 112 rfl C dJ1_removeNode_110 (by decide) (rfl : _ = [some (vR [2, 3] _), some (vI _), some (vR [4, 60] _), some (vR [4, 60] _), some (vI _), some (vI _), some (vR [51] _), some (vR [5, 6, 7] _), none, some (vI _), some (vR [7] _), some (vR [5, 6, 7] _), none, none]) ?_
      refine g_goto 171 C dJ1_removeNode_112 rfl ?_
      refine g_sub [some none, none, none, some none, some none, some none, some none, some none, none, some none, some (some [5, 6, 7]), none, none, none] [] rfl rfl ?_
      exact wk_J1_removeNode_b171 C Rr N _ _ _ _ _ _ _ _ _ w
    · have a271e := Option.some.inj (e268.symm.trans u272)
      subst a271e
      have w := w.2 k273
      refine g_if_eq 100 115 rfl C dJ1_removeNode_97 rfl (fun _ => ?_) (fun q => absurd q (by decide))
      refine g_sub [some none, some none, some none, some none, some none, some none, some none, some none, none, some none, some none, some none, none, none] [] rfl rfl ?_
      obtain ⟨n9, w⟩ := w
      exact wk_J1_removeNode_b115 C Rr N n9 _ _ _ _ _ _ _ _ _ _ _ _ w
def wp_J1_removeNode (h : Hp) (x0 : Option Nat) (x1 : Int32) (x2 : Option Nat) (x3 : Option Nat) (x4 : Int32) (x5 : Int32) (K : Option Nat → Hp → Prop) : Prop :=
  (∃ a200, x0 = some a200 ∧ (((rf h 13 a200) = none → (wp_J1_removeNode_b289 K h)) ∧ (∀ a203, (rf h 13 a200) = some a203 → (ln h a203 < 2 ^ 26 → (((nI (ln h a203)) ≤ 0 → (wp_J1_removeNode_b289 K h)) ∧ (¬ (nI (ln h a203)) ≤ 0 → (∃ j206, (((nI (ln h a203)) - 1) &&& x1) = nI j206 ∧ j206 < ln h a203 ∧ (((rf h (100 + j206) a203) = none → (wp_J1_removeNode_b289 K h)) ∧ (∀ a210, (rf h (100 + j206) a203) = some a210 → ((¬ (it h 0 a210) = x1 → (wp_J1_removeNode_b81 K h x0 x1 x2 x3 x4 x5 (rf h 13 a200) (rf h (100 + j206) a203) (((nI (ln h a203)) - 1) &&& x1) none)) ∧ ((it h 0 a210) = x1 → (((rf h 1 a210) = x2 → (wp_J1_removeNode_b74 K h x0 x3 x4 x5 (rf h 13 a200) (rf h (100 + j206) a203) (((nI (ln h a203)) - 1) &&& x1))) ∧ (¬ (rf h 1 a210) = x2 → ((x2 = none → (wp_J1_removeNode_b81 K h x0 x1 x2 x3 x4 x5 (rf h 13 a200) (rf h (100 + j206) a203) (((nI (ln h a203)) - 1) &&& x1) none)) ∧ (∀ a214, x2 = some a214 → (wp_J5_equals h x2 (rf h 1 a210) (fun r216 h217 => Ex h h217 → ((r216 = 0 → (wp_J1_removeNode_b81 K h217 x0 x1 x2 x3 x4 x5 (rf h 13 a200) (rf h (100 + j206) a203) (((nI (ln h a203)) - 1) &&& x1) none)) ∧ (¬ r216 = 0 → (wp_J1_removeNode_b74 K h217 x0 x3 x4 x5 (rf h 13 a200) (rf h (100 + j206) a203) (((nI (ln h a203)) - 1) &&& x1)))))))))))))))))))))
set_option maxHeartbeats 4000000 in
theorem wk_J1_removeNode {X : Fx} {K : Option Nat → Hp → Prop} (C : Cx X cJ1_removeNode yJ1_removeNode.cls 14 7) (Rr : Rx X (Option.some (Jvm.ClassFile.FieldType.object "java/util/HashMap$Node")) (pR [5, 6, 7] K)) (N : Nm X yJ1_removeNode.name) (h : Hp) (x0 : Option Nat) (x1 : Int32) (x2 : Option Nat) (x3 : Option Nat) (x4 : Int32) (x5 : Int32) (w : wp_J1_removeNode h x0 x1 x2 x3 x4 x5 K) : Gd X h 0 [some (vR [2, 3] x0), some (vI x1), some (vR [4, 60] x2), some (vR [4, 60] x3), some (vI x4), some (vI x5), none, none, none, none, none, none, none, none] [] := by
  unfold wp_J1_removeNode at w
  refine g_aload_n 1 rfl C dJ1_removeNode_0 rfl ?_
  obtain ⟨a200, e201, w⟩ := w
  refine g_getR 4 rfl C dJ1_removeNode_1 fl_HashMap_105 rfl e201 rfl ?_
  refine g_dup 5 rfl C dJ1_removeNode_4 rfl ?_
  refine g_astore 7 rfl C dJ1_removeNode_5 (by decide) (rfl : _ = [some (vR [2, 3] _), some (vI _), some (vR [4, 60] _), some (vR [4, 60] _), some (vI _), some (vI _), some (vR [51] _), none, none, none, none, none, none, none]) ?_
  refine g_ifnull 10 289 rfl C dJ1_removeNode_7 rfl (fun u202 => ?_) (fun a203 u202 => ?_)
  · have w := w.1 u202
    refine g_sub [none, none, none, none, none, none, none, none, none, none, none, none, none, none] [] rfl rfl ?_
    exact wk_J1_removeNode_b289 C Rr N _ w
  · have w := w.2 a203 u202
    refine g_aload 12 rfl C dJ1_removeNode_10 rfl ?_
    refine g_alen 13 rfl C dJ1_removeNode_12 u202 rfl (fun u204 => ?_)
    have w := w u204
    refine g_dup 14 rfl C dJ1_removeNode_13 rfl ?_
    refine g_istore 16 rfl C dJ1_removeNode_14 (by decide) (rfl : _ = [some (vR [2, 3] _), some (vI _), some (vR [4, 60] _), some (vR [4, 60] _), some (vI _), some (vI _), some (vR [51] _), none, some (vI _), none, none, none, none, none]) ?_
    refine g_if_le 19 289 rfl C dJ1_removeNode_16 rfl (fun u205 => ?_) (fun u205 => ?_)
    · have w := w.1 u205
      refine g_sub [none, none, none, none, none, none, none, none, none, none, none, none, none, none] [] rfl rfl ?_
      exact wk_J1_removeNode_b289 C Rr N _ w
    · have w := w.2 u205
      refine g_aload 21 rfl C dJ1_removeNode_19 rfl ?_
      refine g_iload 23 rfl C dJ1_removeNode_21 rfl ?_
      refine g_iconst 24 rfl C dJ1_removeNode_23 1 rfl ?_
      refine g_isub 25 rfl C dJ1_removeNode_24 ?_
      refine g_iload_n 26 rfl C dJ1_removeNode_25 rfl ?_
      refine g_iand 27 rfl C dJ1_removeNode_26 ?_
      refine g_dup 28 rfl C dJ1_removeNode_27 rfl ?_
      refine g_istore 30 rfl C dJ1_removeNode_28 (by decide) (rfl : _ = [some (vR [2, 3] _), some (vI _), some (vR [4, 60] _), some (vR [4, 60] _), some (vI _), some (vI _), some (vR [51] _), none, some (vI _), some (vI _), none, none, none, none]) ?_
      obtain ⟨j206, e207, e208, w⟩ := w
      refine g_aaload 51 31 rfl C dJ1_removeNode_30 (by decide) u202 e207 e208 ?_
      refine g_dup 32 rfl C dJ1_removeNode_31 rfl ?_
      refine g_astore 34 rfl C dJ1_removeNode_32 (by decide) (rfl : _ = [some (vR [2, 3] _), some (vI _), some (vR [4, 60] _), some (vR [4, 60] _), some (vI _), some (vI _), some (vR [51] _), some (vR [5, 6, 7] _), some (vI _), some (vI _), none, none, none, none]) ?_
      refine g_ifnull 37 289 rfl C dJ1_removeNode_34 rfl (fun u209 => ?_) (fun a210 u209 => ?_)
      · have w := w.1 u209
        refine g_sub [none, none, none, none, none, none, none, none, none, none, none, none, none, none] [] rfl rfl ?_
        exact wk_J1_removeNode_b289 C Rr N _ w
      · have w := w.2 a210 u209
        refine g_null 38 rfl C dJ1_removeNode_37 ?_
        refine g_astore 40 rfl C dJ1_removeNode_38 (by decide) (rfl : _ = [some (vR [2, 3] _), some (vI _), some (vR [4, 60] _), some (vR [4, 60] _), some (vI _), some (vI _), some (vR [51] _), some (vR [5, 6, 7] _), some (vI _), some (vI _), some (vR [] _), none, none, none]) ?_
        refine g_aload 42 rfl C dJ1_removeNode_40 rfl ?_
        refine g_getI 45 rfl C dJ1_removeNode_42 fl_HashMap_168 rfl u209 rfl ?_
        refine g_iload_n 46 rfl C dJ1_removeNode_45 rfl ?_
        refine g_icmp_ne 49 81 rfl C dJ1_removeNode_46 rfl (fun u211 => ?_) (fun u211 => ?_)
        · have w := w.1 u211
          refine g_sub [some none, some none, some none, some none, some none, some none, some none, some none, none, some none, some none, none, none, none] [] rfl rfl ?_
          exact wk_J1_removeNode_b81 C Rr N _ _ _ _ _ _ _ _ _ _ _ w
        · have w := w.2 u211
          refine g_aload 51 rfl C dJ1_removeNode_49 rfl ?_
          refine g_getR 54 rfl C dJ1_removeNode_51 fl_HashMap_170 rfl u209 rfl ?_
          refine g_dup 55 rfl C dJ1_removeNode_54 rfl ?_
          refine g_astore 57 rfl C dJ1_removeNode_55 (by decide) (rfl : _ = [some (vR [2, 3] _), some (vI _), some (vR [4, 60] _), some (vR [4, 60] _), some (vI _), some (vI _), some (vR [51] _), some (vR [5, 6, 7] _), some (vI _), some (vI _), some (vR [] _), none, some (vR [4, 60] _), none]) ?_
          refine g_aload_n 58 rfl C dJ1_removeNode_57 rfl ?_
          refine g_acmp_eq 61 74 rfl C dJ1_removeNode_58 rfl (fun u212 => ?_) (fun u212 => ?_)
          · have w := w.1 u212
            refine g_sub [some none, none, none, some none, some none, some none, some none, some none, none, some none, none, none, none, none] [] rfl rfl ?_
            exact wk_J1_removeNode_b74 C Rr N _ _ _ _ _ _ _ _ w
          · have w := w.2 u212
            refine g_aload_n 62 rfl C dJ1_removeNode_61 rfl ?_
            refine g_ifnull 65 81 rfl C dJ1_removeNode_62 rfl (fun u213 => ?_) (fun a214 u213 => ?_)
            · have w := w.1 u213
              refine g_sub [some none, some none, some none, some none, some none, some none, some none, some none, none, some none, some none, none, none, none] [] rfl rfl ?_
              exact wk_J1_removeNode_b81 C Rr N _ _ _ _ _ _ _ _ _ _ _ w
            · have w := w.2 a214 u213
              refine g_aload_n 66 rfl C dJ1_removeNode_65 rfl ?_
              refine g_aload 68 rfl C dJ1_removeNode_66 rfl ?_
              refine g_callU (As := [vR [4, 60] _]) (T := [4, 60]) (st := []) "java/lang/Integer" 71 rfl C dJ1_removeNode_68 q382 q384 dcl_e59518 q388 q389 q15 q390 okn_ad8bbc (by decide) (by decide) (Nat.le_of_ble_eq_true rfl) u213 (fun q => tC rfl q) rfl (ct_J5_equals C.glob w) (fun r0 h217 p218 x219 _ => ?_)
              obtain ⟨r216, rfl, w⟩ := p218
              have w := w x219
              change Gd _ _ _ _ (vI r216 :: [])
              refine g_if_eq 74 81 rfl C dJ1_removeNode_71 rfl (fun u220 => ?_) (fun u220 => ?_)
              · have w := w.1 u220
                refine g_sub [some none, some none, some none, some none, some none, some none, some none, some none, none, some none, some none, none, none, none] [] rfl rfl ?_
                exact wk_J1_removeNode_b81 C Rr N _ _ _ _ _ _ _ _ _ _ _ w
              · have w := w.2 u220
                refine g_sub [some none, none, none, some none, some none, some none, some none, some none, none, some none, none, none, none, none] [] rfl rfl ?_
                exact wk_J1_removeNode_b74 C Rr N _ _ _ _ _ _ _ _ w
theorem ct_J1_removeNode {E : Gx} (GE : Glob E) {h : Hp} {x0 : Option Nat} {x1 : Int32} {x2 : Option Nat} {x3 : Option Nat} {x4 : Int32} {x5 : Int32} {K : Option Nat → Hp → Prop} (w : wp_J1_removeNode h x0 x1 x2 x3 x4 x5 K) : Ct E yJ1_removeNode cJ1_removeNode 14 (Option.some (Jvm.ClassFile.FieldType.object "java/util/HashMap$Node")) 7 [vR [2, 3] x0, vI x1, vR [4, 60] x2, vR [4, 60] x3, vI x4, vI x5] h (pR [5, 6, 7] K) :=
  Ct.of GE (by decide +kernel) (by simp [lvA, t2]) rfl (fun X hX C Rr N => wk_J1_removeNode C Rr N h x0 x1 x2 x3 x4 x5 w)
def wp_J1_remove_b25 (K : Option Nat → Hp → Prop) (h : Hp) (s0 : Option Nat) : Prop :=
  (K s0 h)
set_option maxHeartbeats 4000000 in
theorem wk_J1_remove_b25 {X : Fx} {K : Option Nat → Hp → Prop} (C : Cx X cJ1_remove yJ1_remove.cls 3 8) (Rr : Rx X (Option.some (Jvm.ClassFile.FieldType.object "java/lang/Object")) (pR [4, 60] K)) (N : Nm X yJ1_remove.name) (h : Hp) (s0 : Option Nat) (w : wp_J1_remove_b25 K h s0) : Gd X h 25 [none, none, none] [vR [4, 60] s0] := by
  unfold wp_J1_remove_b25 at w
  exact g_areturn [4, 60] C Rr rfl dJ1_remove_25 rfl ⟨_, rfl, w⟩
def wp_J1_remove_b12 (K : Option Nat → Hp → Prop) (h : Hp) (s0 : Option Nat) : Prop :=
  ((s0 = none → (wp_J1_remove_b25 K h none)) ∧ (∀ a30, s0 = some a30 → (wp_J1_remove_b25 K h (rf h 2 a30))))
set_option maxHeartbeats 4000000 in
theorem wk_J1_remove_b12 {X : Fx} {K : Option Nat → Hp → Prop} (C : Cx X cJ1_remove yJ1_remove.cls 3 8) (Rr : Rx X (Option.some (Jvm.ClassFile.FieldType.object "java/lang/Object")) (pR [4, 60] K)) (N : Nm X yJ1_remove.name) (h : Hp) (s0 : Option Nat) (w : wp_J1_remove_b12 K h s0) : Gd X h 12 [none, none, none] [vR [5, 6, 7] s0] := by
  unfold wp_J1_remove_b12 at w
  refine g_dup 13 rfl C dJ1_remove_12 rfl ?_
  refine g_astore_n 14 rfl C dJ1_remove_13 (by decide) (rfl : _ = [none, none, some (vR [5, 6, 7] _)]) ?_
  refine g_ifnonnull 17 21 rfl C dJ1_remove_14 rfl (fun a30 u29 => ?_) (fun u29 => ?_)
  · have w := w.2 a30 u29
    refine g_aload_n 22 rfl C dJ1_remove_21 rfl ?_
    refine g_getR 25 rfl C dJ1_remove_22 fl_HashMap_162 rfl u29 rfl ?_
    refine g_sub [none, none, none] [none] rfl rfl ?_
    exact wk_J1_remove_b25 C Rr N _ _ w
  · have w := w.1 u29
    refine g_null 18 rfl C dJ1_remove_17 ?_
    refine g_goto 25 C dJ1_remove_18 rfl ?_
    refine g_sub [none, none, none] [some [4, 60]] rfl rfl ?_
    exact wk_J1_remove_b25 C Rr N _ _ w
def wp_J1_remove (h : Hp) (x0 : Option Nat) (x1 : Option Nat) (K : Option Nat → Hp → Prop) : Prop :=
  (wp_J1_hash h x1 (fun r18 h19 => Ex h h19 → (∃ a22, x0 = some a22 ∧ (wp_J1_removeNode h19 x0 r18 x1 none 0 1 (fun r25 h26 => Ex h19 h26 → (wp_J1_remove_b12 K h26 r25))))))
set_option maxHeartbeats 4000000 in
theorem wk_J1_remove {X : Fx} {K : Option Nat → Hp → Prop} (C : Cx X cJ1_remove yJ1_remove.cls 3 8) (Rr : Rx X (Option.some (Jvm.ClassFile.FieldType.object "java/lang/Object")) (pR [4, 60] K)) (N : Nm X yJ1_remove.name) (h : Hp) (x0 : Option Nat) (x1 : Option Nat) (w : wp_J1_remove h x0 x1 K) : Gd X h 0 [some (vR [2, 3] x0), some (vR [4, 60] x1), none] [] := by
  unfold wp_J1_remove at w
  refine g_aload_n 1 rfl C dJ1_remove_0 rfl ?_
  refine g_aload_n 2 rfl C dJ1_remove_1 rfl ?_
  refine g_callS (As := [vR [4, 60] _]) (st := [vR [2, 3] _]) 5 rfl C dJ1_remove_2 q189 q190 q11 q191 okn_b794a0 (by decide) (by decide) (Nat.le_of_ble_eq_true rfl) rfl (ct_J1_hash C.glob w) (fun r0 h19 p20 x21 _ => ?_)
  obtain ⟨r18, rfl, w⟩ := p20
  have w := w x21
  change Gd _ _ _ _ (vI r18 :: [vR [2, 3] _])
  refine g_aload_n 6 rfl C dJ1_remove_5 rfl ?_
  refine g_null 7 rfl C dJ1_remove_6 ?_
  refine g_iconst 8 rfl C dJ1_remove_7 0 rfl ?_
  refine g_iconst 9 rfl C dJ1_remove_8 1 rfl ?_
  obtain ⟨a22, e23, w⟩ := w
  refine g_known 5 rfl e23 (fun k24 => ?_)
  have k24 : kd _ _ ∈ [2, 3] := k24
  simp only [List.mem_cons, List.not_mem_nil, or_false] at k24
  rcases k24 with k24 | k24
  · refine g_sub [some none, some none, none] [none, none, some [4, 60], none, none, none] rfl rfl ?_
    refine g_callU (As := [vI _, vR [4, 60] _, vR [4, 60] _, vI _, vI _]) (T := [2, 3]) (st := []) "java/util/HashMap" 12 rfl C dJ1_remove_9 q544 q547 dcl_175649 q546 q545 q11 q549 okn_d60e16 (by decide) (by decide) (Nat.le_of_ble_eq_true rfl) e23 (fun _ => kC rfl k24) rfl (ct_J1_removeNode C.glob w) (fun r0 h26 p27 x28 _ => ?_)
    obtain ⟨r25, rfl, w⟩ := p27
    have w := w x28
    change Gd _ _ _ _ (vR [5, 6, 7] r25 :: [])
    refine g_sub [none, none, none] [none] rfl rfl ?_
    exact wk_J1_remove_b12 C Rr N _ _ w
  · refine g_sub [some none, some none, none] [none, none, some [4, 60], none, none, none] rfl rfl ?_
    refine g_callU (As := [vI _, vR [4, 60] _, vR [4, 60] _, vI _, vI _]) (T := [2, 3]) (st := []) "java/util/LinkedHashMap" 12 rfl C dJ1_remove_9 q544 q547 dcl_175649 q548 q545 q11 q549 okn_d60e16 (by decide) (by decide) (Nat.le_of_ble_eq_true rfl) e23 (fun _ => kC rfl k24) rfl (ct_J1_removeNode C.glob w) (fun r0 h26 p27 x28 _ => ?_)
    obtain ⟨r25, rfl, w⟩ := p27
    have w := w x28
    change Gd _ _ _ _ (vR [5, 6, 7] r25 :: [])
    refine g_sub [none, none, none] [none] rfl rfl ?_
    exact wk_J1_remove_b12 C Rr N _ _ w
theorem ct_J1_remove {E : Gx} (GE : Glob E) {h : Hp} {x0 : Option Nat} {x1 : Option Nat} {K : Option Nat → Hp → Prop} (w : wp_J1_remove h x0 x1 K) : Ct E yJ1_remove cJ1_remove 3 (Option.some (Jvm.ClassFile.FieldType.object "java/lang/Object")) 8 [vR [2, 3] x0, vR [4, 60] x1] h (pR [4, 60] K) :=
  Ct.of GE (by decide +kernel) (by simp [lvA, t2]) rfl (fun X hX C Rr N => wk_J1_remove C Rr N h x0 x1 w)
def wp_J1_remove_2_b20 (K : Int32 → Hp → Prop) (h : Hp) (s0 : Int32) : Prop :=
  ((s0 = 0 ∨ s0 = 1) ∧ K s0 h)
set_option maxHeartbeats 4000000 in
theorem wk_J1_remove_2_b20 {X : Fx} {K : Int32 → Hp → Prop} (C : Cx X cJ1_remove_2 yJ1_remove_2.cls 3 8) (Rr : Rx X (Option.some Jvm.ClassFile.FieldType.boolean) (pI K)) (N : Nm X yJ1_remove_2.name) (h : Hp) (s0 : Int32) (w : wp_J1_remove_2_b20 K h s0) : Gd X h 20 [none, none, none] [vI s0] := by
  unfold wp_J1_remove_2_b20 at w
  exact g_zreturn C Rr dJ1_remove_2_20 w.1 ⟨_, rfl, w.2⟩
def wp_J1_remove_2_b12 (K : Int32 → Hp → Prop) (h : Hp) (s0 : Option Nat) : Prop :=
  ((s0 = none → (wp_J1_remove_2_b20 K h 0)) ∧ (∀ a28, s0 = some a28 → (wp_J1_remove_2_b20 K h 1)))
set_option maxHeartbeats 4000000 in
theorem wk_J1_remove_2_b12 {X : Fx} {K : Int32 → Hp → Prop} (C : Cx X cJ1_remove_2 yJ1_remove_2.cls 3 8) (Rr : Rx X (Option.some Jvm.ClassFile.FieldType.boolean) (pI K)) (N : Nm X yJ1_remove_2.name) (h : Hp) (s0 : Option Nat) (w : wp_J1_remove_2_b12 K h s0) : Gd X h 12 [none, none, none] [vR [5, 6, 7] s0] := by
  unfold wp_J1_remove_2_b12 at w
  refine g_ifnull 15 19 rfl C dJ1_remove_2_12 rfl (fun u27 => ?_) (fun a28 u27 => ?_)
  · have w := w.1 u27
    refine g_iconst 20 rfl C dJ1_remove_2_19 0 rfl ?_
    refine g_sub [none, none, none] [none] rfl rfl ?_
    exact wk_J1_remove_2_b20 C Rr N _ _ w
  · have w := w.2 a28 u27
    refine g_iconst 16 rfl C dJ1_remove_2_15 1 rfl ?_
    refine g_goto 20 C dJ1_remove_2_16 rfl ?_
    refine g_sub [none, none, none] [none] rfl rfl ?_
    exact wk_J1_remove_2_b20 C Rr N _ _ w
def wp_J1_remove_2 (h : Hp) (x0 : Option Nat) (x1 : Option Nat) (x2 : Option Nat) (K : Int32 → Hp → Prop) : Prop :=
  (wp_J1_hash h x1 (fun r16 h17 => Ex h h17 → (∃ a20, x0 = some a20 ∧ (wp_J1_removeNode h17 x0 r16 x1 x2 1 1 (fun r23 h24 => Ex h17 h24 → (wp_J1_remove_2_b12 K h24 r23))))))
set_option maxHeartbeats 4000000 in
theorem wk_J1_remove_2 {X : Fx} {K : Int32 → Hp → Prop} (C : Cx X cJ1_remove_2 yJ1_remove_2.cls 3 8) (Rr : Rx X (Option.some Jvm.ClassFile.FieldType.boolean) (pI K)) (N : Nm X yJ1_remove_2.name) (h : Hp) (x0 : Option Nat) (x1 : Option Nat) (x2 : Option Nat) (w : wp_J1_remove_2 h x0 x1 x2 K) : Gd X h 0 [some (vR [2, 3] x0), some (vR [4, 60] x1), some (vR [4, 60] x2)] [] := by
  unfold wp_J1_remove_2 at w
  refine g_aload_n 1 rfl C dJ1_remove_2_0 rfl ?_
  refine g_aload_n 2 rfl C dJ1_remove_2_1 rfl ?_
  refine g_callS (As := [vR [4, 60] _]) (st := [vR [2, 3] _]) 5 rfl C dJ1_remove_2_2 q189 q190 q11 q191 okn_b794a0 (by decide) (by decide) (Nat.le_of_ble_eq_true rfl) rfl (ct_J1_hash C.glob w) (fun r0 h17 p18 x19 _ => ?_)
  obtain ⟨r16, rfl, w⟩ := p18
  have w := w x19
  change Gd _ _ _ _ (vI r16 :: [vR [2, 3] _])
  refine g_aload_n 6 rfl C dJ1_remove_2_5 rfl ?_
  refine g_aload_n 7 rfl C dJ1_remove_2_6 rfl ?_
  refine g_iconst 8 rfl C dJ1_remove_2_7 1 rfl ?_
  refine g_iconst 9 rfl C dJ1_remove_2_8 1 rfl ?_
  obtain ⟨a20, e21, w⟩ := w
  refine g_known 5 rfl e21 (fun k22 => ?_)
  have k22 : kd _ _ ∈ [2, 3] := k22
  simp only [List.mem_cons, List.not_mem_nil, or_false] at k22
  rcases k22 with k22 | k22
  · refine g_callU (As := [vI _, vR [4, 60] _, vR [4, 60] _, vI _, vI _]) (T := [2, 3]) (st := []) "java/util/HashMap" 12 rfl C dJ1_remove_2_9 q544 q547 dcl_175649 q546 q545 q11 q549 okn_d60e16 (by decide) (by decide) (Nat.le_of_ble_eq_true rfl) e21 (fun _ => kC rfl k22) rfl (ct_J1_removeNode C.glob w) (fun r0 h24 p25 x26 _ => ?_)
    obtain ⟨r23, rfl, w⟩ := p25
    have w := w x26
    change Gd _ _ _ _ (vR [5, 6, 7] r23 :: [])
    refine g_sub [none, none, none] [none] rfl rfl ?_
    exact wk_J1_remove_2_b12 C Rr N _ _ w
  · refine g_callU (As := [vI _, vR [4, 60] _, vR [4, 60] _, vI _, vI _]) (T := [2, 3]) (st := []) "java/util/LinkedHashMap" 12 rfl C dJ1_remove_2_9 q544 q547 dcl_175649 q548 q545 q11 q549 okn_d60e16 (by decide) (by decide) (Nat.le_of_ble_eq_true rfl) e21 (fun _ => kC rfl k22) rfl (ct_J1_removeNode C.glob w) (fun r0 h24 p25 x26 _ => ?_)
    obtain ⟨r23, rfl, w⟩ := p25
    have w := w x26
    change Gd _ _ _ _ (vR [5, 6, 7] r23 :: [])
    refine g_sub [none, none, none] [none] rfl rfl ?_
    exact wk_J1_remove_2_b12 C Rr N _ _ w
theorem ct_J1_remove_2 {E : Gx} (GE : Glob E) {h : Hp} {x0 : Option Nat} {x1 : Option Nat} {x2 : Option Nat} {K : Int32 → Hp → Prop} (w : wp_J1_remove_2 h x0 x1 x2 K) : Ct E yJ1_remove_2 cJ1_remove_2 3 (Option.some Jvm.ClassFile.FieldType.boolean) 8 [vR [2, 3] x0, vR [4, 60] x1, vR [4, 60] x2] h (pI K) :=
  Ct.of GE (by decide +kernel) (by simp [lvA, t2]) rfl (fun X hX C Rr N => wk_J1_remove_2 C Rr N h x0 x1 x2 w)
def wp_J1_containsValue_b69 (K : Int32 → Hp → Prop) (h : Hp)  : Prop :=
  (K 1 h)
set_option maxHeartbeats 4000000 in
theorem wk_J1_containsValue_b69 {X : Fx} {K : Int32 → Hp → Prop} (C : Cx X cJ1_containsValue yJ1_containsValue.cls 8 4) (Rr : Rx X (Option.some Jvm.ClassFile.FieldType.boolean) (pI K)) (N : Nm X yJ1_containsValue.name) (h : Hp)  (w : wp_J1_containsValue_b69 K h ) : Gd X h 69 [none, none, none, none, none, none, none, none] [] := by
  unfold wp_J1_containsValue_b69 at w
  refine g_iconst 70 rfl C dJ1_containsValue_69 1 rfl ?_
  exact g_zreturn C Rr dJ1_containsValue_70 (Or.inr rfl) ⟨_, rfl, w⟩
def wp_J1_containsValue_b71 (G27 : Hp → Option Nat → Option Nat → Int32 → Int32 → Prop) (G41 : Hp → Option Nat → Option Nat → Int32 → Int32 → Option Nat → Prop) (K : Int32 → Hp → Prop) (h : Hp) (l1 : Option Nat) (l4 : Option Nat) (l5 : Int32) (l6 : Int32) (l7 : Option Nat) : Prop :=
  (∃ a40, l7 = some a40 ∧ (G41 h l1 l4 l5 l6 (rf h 3 a40)))
set_option maxHeartbeats 4000000 in
theorem wk_J1_containsValue_b71 {X : Fx} {K : Int32 → Hp → Prop} (C : Cx X cJ1_containsValue yJ1_containsValue.cls 8 4) (Rr : Rx X (Option.some Jvm.ClassFile.FieldType.boolean) (pI K)) (N : Nm X yJ1_containsValue.name) {G27 : Hp → Option Nat → Option Nat → Int32 → Int32 → Prop} {G41 : Hp → Option Nat → Option Nat → Int32 → Int32 → Option Nat → Prop} (k27 : ∀ (h : Hp) (l1 : Option Nat) (l4 : Option Nat) (l5 : Int32) (l6 : Int32), G27 h l1 l4 l5 l6 → Gd X h 27 [none, some (vR [4, 60] l1), none, none, some (vR [51] l4), some (vI l5), some (vI l6), none] []) (k41 : ∀ (h : Hp) (l1 : Option Nat) (l4 : Option Nat) (l5 : Int32) (l6 : Int32) (l7 : Option Nat), G41 h l1 l4 l5 l6 l7 → Gd X h 41 [none, some (vR [4, 60] l1), none, none, some (vR [51] l4), some (vI l5), some (vI l6), some (vR [5, 6, 7] l7)] []) (h : Hp) (l1 : Option Nat) (l4 : Option Nat) (l5 : Int32) (l6 : Int32) (l7 : Option Nat) (w : wp_J1_containsValue_b71 G27 G41 K h l1 l4 l5 l6 l7) : Gd X h 71 [none, some (vR [4, 60] l1), none, none, some (vR [51] l4), some (vI l5), some (vI l6), some (vR [5, 6, 7] l7)] [] := by
  unfold wp_J1_containsValue_b71 at w
  refine g_aload 73 rfl C dJ1_containsValue_71 rfl ?_
  obtain ⟨a40, e41, w⟩ := w
  refine g_getR 76 rfl C dJ1_containsValue_73 fl_HashMap_177 rfl e41 rfl ?_
  refine g_astore 78 rfl C dJ1_containsValue_76 (by decide) (rfl : _ = [none, some (vR [4, 60] _), none, none, some (vR [51] _), some (vI _), some (vI _), some (vR [5, 6, 7] _)]) ?_
  refine g_goto 41 C dJ1_containsValue_78 rfl ?_
  refine g_sub [none, some none, none, none, some none, some none, some none, some none] [] rfl rfl ?_
  exact k41 _ _ _ _ _ _ w
def wp_J1_containsValue_b41 (G27 : Hp → Option Nat → Option Nat → Int32 → Int32 → Prop) (K : Int32 → Hp → Prop) : Nat → Hp → Option Nat → Option Nat → Int32 → Int32 → Option Nat → Prop
  | 0 => fun _ _ _ _ _ _ => False
  | m9 + 1 => fun h l1 l4 l5 l6 l7 =>
    ((l7 = none → (G27 h l1 l4 l5 (l6 + 1))) ∧ (∀ a43, l7 = some a43 → (((rf h 2 a43) = l1 → (wp_J1_containsValue_b69 K h)) ∧ (¬ (rf h 2 a43) = l1 → ((l1 = none → (wp_J1_containsValue_b71 G27 (wp_J1_containsValue_b41 G27 K m9) K h l1 l4 l5 l6 l7)) ∧ (∀ a46, l1 = some a46 → (wp_J5_equals h l1 (rf h 2 a43) (fun r48 h49 => Ex h h49 → ((r48 = 0 → (wp_J1_containsValue_b71 G27 (wp_J1_containsValue_b41 G27 K m9) K h49 l1 l4 l5 l6 l7)) ∧ (¬ r48 = 0 → (wp_J1_containsValue_b69 K h49)))))))))))
set_option maxHeartbeats 4000000 in
theorem wk_J1_containsValue_b41 {X : Fx} {K : Int32 → Hp → Prop} (C : Cx X cJ1_containsValue yJ1_containsValue.cls 8 4) (Rr : Rx X (Option.some Jvm.ClassFile.FieldType.boolean) (pI K)) (N : Nm X yJ1_containsValue.name) {G27 : Hp → Option Nat → Option Nat → Int32 → Int32 → Prop} (k27 : ∀ (h : Hp) (l1 : Option Nat) (l4 : Option Nat) (l5 : Int32) (l6 : Int32), G27 h l1 l4 l5 l6 → Gd X h 27 [none, some (vR [4, 60] l1), none, none, some (vR [51] l4), some (vI l5), some (vI l6), none] []) : ∀ (n : Nat) (h : Hp) (l1 : Option Nat) (l4 : Option Nat) (l5 : Int32) (l6 : Int32) (l7 : Option Nat), wp_J1_containsValue_b41 G27 K n h l1 l4 l5 l6 l7 → Gd X h 41 [none, some (vR [4, 60] l1), none, none, some (vR [51] l4), some (vI l5), some (vI l6), some (vR [5, 6, 7] l7)] [] := by
  intro n
  induction n with
  | zero => intro h l1 l4 l5 l6 l7 w; exact w.elim
  | succ n ih =>
    intro h l1 l4 l5 l6 l7 w
    unfold wp_J1_containsValue_b41 at w
    refine g_aload 43 rfl C dJ1_containsValue_41 rfl ?_
    refine g_ifnull 46 81 rfl C dJ1_containsValue_43 rfl (fun u42 => ?_) (fun a43 u42 => ?_)
    · have w := w.1 u42
      refine g_iinc 84 rfl C dJ1_containsValue_81 rfl _ rfl (by decide) (rfl : _ = [none, some (vR [4, 60] _), none, none, some (vR [51] _), some (vI _), some (vI _), some (vR [5, 6, 7] _)]) ?_
      refine g_goto 27 C dJ1_containsValue_84 rfl ?_
      refine g_sub [none, some none, none, none, some none, some none, some none, none] [] rfl rfl ?_
      exact k27 _ _ _ _ _ w
    · have w := w.2 a43 u42
      refine g_aload 48 rfl C dJ1_containsValue_46 rfl ?_
      refine g_getR 51 rfl C dJ1_containsValue_48 fl_HashMap_162 rfl u42 rfl ?_
      refine g_dup 52 rfl C dJ1_containsValue_51 rfl ?_
      refine g_astore_n 53 rfl C dJ1_containsValue_52 (by decide) (rfl : _ = [none, some (vR [4, 60] _), none, some (vR [4, 60] _), some (vR [51] _), some (vI _), some (vI _), some (vR [5, 6, 7] _)]) ?_
      refine g_aload_n 54 rfl C dJ1_containsValue_53 rfl ?_
      refine g_acmp_eq 57 69 rfl C dJ1_containsValue_54 rfl (fun u44 => ?_) (fun u44 => ?_)
      · have w := w.1 u44
        refine g_sub [none, none, none, none, none, none, none, none] [] rfl rfl ?_
        exact wk_J1_containsValue_b69 C Rr N _ w
      · have w := w.2 u44
        refine g_aload_n 58 rfl C dJ1_containsValue_57 rfl ?_
        refine g_ifnull 61 71 rfl C dJ1_containsValue_58 rfl (fun u45 => ?_) (fun a46 u45 => ?_)
        · have w := w.1 u45
          refine g_sub [none, some none, none, none, some none, some none, some none, some none] [] rfl rfl ?_
          exact wk_J1_containsValue_b71 C Rr N k27 ih _ _ _ _ _ _ w
        · have w := w.2 a46 u45
          refine g_aload_n 62 rfl C dJ1_containsValue_61 rfl ?_
          refine g_aload_n 63 rfl C dJ1_containsValue_62 rfl ?_
          refine g_callU (As := [vR [4, 60] _]) (T := [4, 60]) (st := []) "java/lang/Integer" 66 rfl C dJ1_containsValue_63 q382 q384 dcl_e59518 q388 q389 q15 q390 okn_ad8bbc (by decide) (by decide) (Nat.le_of_ble_eq_true rfl) u45 (fun q => tC rfl q) rfl (ct_J5_equals C.glob w) (fun r0 h49 p50 x51 _ => ?_)
          obtain ⟨r48, rfl, w⟩ := p50
          have w := w x51
          change Gd _ _ _ _ (vI r48 :: [])
          refine g_if_eq 69 71 rfl C dJ1_containsValue_66 rfl (fun u52 => ?_) (fun u52 => ?_)
          · have w := w.1 u52
            refine g_sub [none, some none, none, none, some none, some none, some none, some none] [] rfl rfl ?_
            exact wk_J1_containsValue_b71 C Rr N k27 ih _ _ _ _ _ _ w
          · have w := w.2 u52
            refine g_sub [none, none, none, none, none, none, none, none] [] rfl rfl ?_
            exact wk_J1_containsValue_b69 C Rr N _ w
def wp_J1_containsValue_b87 (K : Int32 → Hp → Prop) (h : Hp)  : Prop :=
  (K 0 h)
set_option maxHeartbeats 4000000 in
theorem wk_J1_containsValue_b87 {X : Fx} {K : Int32 → Hp → Prop} (C : Cx X cJ1_containsValue yJ1_containsValue.cls 8 4) (Rr : Rx X (Option.some Jvm.ClassFile.FieldType.boolean) (pI K)) (N : Nm X yJ1_containsValue.name) (h : Hp)  (w : wp_J1_containsValue_b87 K h ) : Gd X h 87 [none, none, none, none, none, none, none, none] [] := by
  unfold wp_J1_containsValue_b87 at w
  refine g_iconst 88 rfl C dJ1_containsValue_87 0 rfl ?_
  exact g_zreturn C Rr dJ1_containsValue_88 (Or.inl rfl) ⟨_, rfl, w⟩
def wp_J1_containsValue_b27 (K : Int32 → Hp → Prop) : Nat → Hp → Option Nat → Option Nat → Int32 → Int32 → Prop
  | 0 => fun _ _ _ _ _ => False
  | m9 + 1 => fun h l1 l4 l5 l6 =>
    ((l5 ≤ l6 → (wp_J1_containsValue_b87 K h)) ∧ (¬ l5 ≤ l6 → (∃ a54, l4 = some a54 ∧ (∃ j56, l6 = nI j56 ∧ j56 < ln h a54 ∧ (∃ n, wp_J1_containsValue_b41 (wp_J1_containsValue_b27 K m9) K n h l1 l4 l5 l6 (rf h (100 + j56) a54))))))
set_option maxHeartbeats 4000000 in
theorem wk_J1_containsValue_b27 {X : Fx} {K : Int32 → Hp → Prop} (C : Cx X cJ1_containsValue yJ1_containsValue.cls 8 4) (Rr : Rx X (Option.some Jvm.ClassFile.FieldType.boolean) (pI K)) (N : Nm X yJ1_containsValue.name) : ∀ (n : Nat) (h : Hp) (l1 : Option Nat) (l4 : Option Nat) (l5 : Int32) (l6 : Int32), wp_J1_containsValue_b27 K n h l1 l4 l5 l6 → Gd X h 27 [none, some (vR [4, 60] l1), none, none, some (vR [51] l4), some (vI l5), some (vI l6), none] [] := by
  intro n
  induction n with
  | zero => intro h l1 l4 l5 l6 w; exact w.elim
  | succ n ih =>
    intro h l1 l4 l5 l6 w
    unfold wp_J1_containsValue_b27 at w
    refine g_iload 29 rfl C dJ1_containsValue_27 rfl ?_
    refine g_iload 31 rfl C dJ1_containsValue_29 rfl ?_
    refine g_icmp_ge 34 87 rfl C dJ1_containsValue_31 rfl (fun u53 => ?_) (fun u53 => ?_)
    · have w := w.1 u53
      refine g_sub [none, none, none, none, none, none, none, none] [] rfl rfl ?_
      exact wk_J1_containsValue_b87 C Rr N _ w
    · have w := w.2 u53
      refine g_aload 36 rfl C dJ1_containsValue_34 rfl ?_
      refine g_iload 38 rfl C dJ1_containsValue_36 rfl ?_
      obtain ⟨a54, e55, w⟩ := w
      obtain ⟨j56, e57, e58, w⟩ := w
      refine g_aaload 51 39 rfl C dJ1_containsValue_38 (by decide) e55 e57 e58 ?_
      refine g_astore 41 rfl C dJ1_containsValue_39 (by decide) (rfl : _ = [none, some (vR [4, 60] _), none, none, some (vR [51] _), some (vI _), some (vI _), some (vR [5, 6, 7] _)]) ?_
      refine g_sub [none, some none, none, none, some none, some none, some none, some none] [] rfl rfl ?_
      obtain ⟨n9, w⟩ := w
      exact wk_J1_containsValue_b41 C Rr N ih n9 _ _ _ _ _ _ w
def wp_J1_containsValue (h : Hp) (x0 : Option Nat) (x1 : Option Nat) (K : Int32 → Hp → Prop) : Prop :=
  (∃ a34, x0 = some a34 ∧ (((rf h 13 a34) = none → (wp_J1_containsValue_b87 K h)) ∧ (∀ a37, (rf h 13 a34) = some a37 → (((it h 15 a34) ≤ 0 → (wp_J1_containsValue_b87 K h)) ∧ (¬ (it h 15 a34) ≤ 0 → (ln h a37 < 2 ^ 26 → (∃ n, wp_J1_containsValue_b27 K n h x1 (rf h 13 a34) (nI (ln h a37)) 0)))))))
set_option maxHeartbeats 4000000 in
theorem wk_J1_containsValue {X : Fx} {K : Int32 → Hp → Prop} (C : Cx X cJ1_containsValue yJ1_containsValue.cls 8 4) (Rr : Rx X (Option.some Jvm.ClassFile.FieldType.boolean) (pI K)) (N : Nm X yJ1_containsValue.name) (h : Hp) (x0 : Option Nat) (x1 : Option Nat) (w : wp_J1_containsValue h x0 x1 K) : Gd X h 0 [some (vR [2, 3] x0), some (vR [4, 60] x1), none, none, none, none, none, none] [] := by
  unfold wp_J1_containsValue at w
  refine g_aload_n 1 rfl C dJ1_containsValue_0 rfl ?_
  obtain ⟨a34, e35, w⟩ := w
  refine g_getR 4 rfl C dJ1_containsValue_1 fl_HashMap_105 rfl e35 rfl ?_
  refine g_dup 5 rfl C dJ1_containsValue_4 rfl ?_
  refine g_astore_n 6 rfl C dJ1_containsValue_5 (by decide) (rfl : _ = [some (vR [2, 3] _), some (vR [4, 60] _), some (vR [51] _), none, none, none, none, none]) ?_
  refine g_ifnull 9 87 rfl C dJ1_containsValue_6 rfl (fun u36 => ?_) (fun a37 u36 => ?_)
  · have w := w.1 u36
    refine g_sub [none, none, none, none, none, none, none, none] [] rfl rfl ?_
    exact wk_J1_containsValue_b87 C Rr N _ w
  · have w := w.2 a37 u36
    refine g_aload_n 10 rfl C dJ1_containsValue_9 rfl ?_
    refine g_getI 13 rfl C dJ1_containsValue_10 fl_HashMap_156 rfl e35 rfl ?_
    refine g_if_le 16 87 rfl C dJ1_containsValue_13 rfl (fun u38 => ?_) (fun u38 => ?_)
    · have w := w.1 u38
      refine g_sub [none, none, none, none, none, none, none, none] [] rfl rfl ?_
      exact wk_J1_containsValue_b87 C Rr N _ w
    · have w := w.2 u38
      refine g_aload_n 17 rfl C dJ1_containsValue_16 rfl ?_
      refine g_astore 19 rfl C dJ1_containsValue_17 (by decide) (rfl : _ = [some (vR [2, 3] _), some (vR [4, 60] _), some (vR [51] _), none, some (vR [51] _), none, none, none]) ?_
      refine g_aload 21 rfl C dJ1_containsValue_19 rfl ?_
      refine g_alen 22 rfl C dJ1_containsValue_21 u36 rfl (fun u39 => ?_)
      have w := w u39
      refine g_istore 24 rfl C dJ1_containsValue_22 (by decide) (rfl : _ = [some (vR [2, 3] _), some (vR [4, 60] _), some (vR [51] _), none, some (vR [51] _), some (vI _), none, none]) ?_
      refine g_iconst 25 rfl C dJ1_containsValue_24 0 rfl ?_
      refine g_istore 27 rfl C dJ1_containsValue_25 (by decide) (rfl : _ = [some (vR [2, 3] _), some (vR [4, 60] _), some (vR [51] _), none, some (vR [51] _), some (vI _), some (vI _), none]) ?_
      refine g_sub [none, some none, none, none, some none, some none, some none, none] [] rfl rfl ?_
      obtain ⟨n9, w⟩ := w
      exact wk_J1_containsValue_b27 C Rr N n9 _ _ _ _ _ w
theorem ct_J1_containsValue {E : Gx} (GE : Glob E) {h : Hp} {x0 : Option Nat} {x1 : Option Nat} {K : Int32 → Hp → Prop} (w : wp_J1_containsValue h x0 x1 K) : Ct E yJ1_containsValue cJ1_containsValue 8 (Option.some Jvm.ClassFile.FieldType.boolean) 4 [vR [2, 3] x0, vR [4, 60] x1] h (pI K) :=
  Ct.of GE (by decide +kernel) (by simp [lvA, t2]) rfl (fun X hX C Rr N => wk_J1_containsValue C Rr N h x0 x1 w)
def wp_J1_clear_b49 (K : Hp → Prop) (h : Hp)  : Prop :=
  (K h)
set_option maxHeartbeats 4000000 in
theorem wk_J1_clear_b49 {X : Fx} {K : Hp → Prop} (C : Cx X cJ1_clear yJ1_clear.cls 3 2) (Rr : Rx X (Option.none : Option Jvm.ClassFile.FieldType) (pV K)) (N : Nm X yJ1_clear.name) (h : Hp)  (w : wp_J1_clear_b49 K h ) : Gd X h 49 [none, none, none] [] := by
  unfold wp_J1_clear_b49 at w
  exact g_vreturn C Rr dJ1_clear_49 ⟨rfl, w⟩
def wp_J1_clear_b33 (K : Hp → Prop) : Nat → Hp → Option Nat → Int32 → Prop
  | 0 => fun _ _ _ => False
  | m9 + 1 => fun h l1 l2 =>
    (∃ a33, l1 = some a33 ∧ (ln h a33 < 2 ^ 26 → (((nI (ln h a33)) ≤ l2 → (wp_J1_clear_b49 K h)) ∧ (¬ (nI (ln h a33)) ≤ l2 → (∃ j37, l2 = nI j37 ∧ j37 < ln h a33 ∧ ∀ h40, h40 = wR h (100 + j37) a33 none → (wp_J1_clear_b33 K m9 h40 l1 (l2 + 1)))))))
set_option maxHeartbeats 4000000 in
theorem wk_J1_clear_b33 {X : Fx} {K : Hp → Prop} (C : Cx X cJ1_clear yJ1_clear.cls 3 2) (Rr : Rx X (Option.none : Option Jvm.ClassFile.FieldType) (pV K)) (N : Nm X yJ1_clear.name) : ∀ (n : Nat) (h : Hp) (l1 : Option Nat) (l2 : Int32), wp_J1_clear_b33 K n h l1 l2 → Gd X h 33 [none, some (vR [51] l1), some (vI l2)] [] := by
  intro n
  induction n with
  | zero => intro h l1 l2 w; exact w.elim
  | succ n ih =>
    intro h l1 l2 w
    unfold wp_J1_clear_b33 at w
    refine g_iload_n 34 rfl C dJ1_clear_33 rfl ?_
    refine g_aload_n 35 rfl C dJ1_clear_34 rfl ?_
    obtain ⟨a33, e34, w⟩ := w
    refine g_alen 36 rfl C dJ1_clear_35 e34 rfl (fun u35 => ?_)
    have w := w u35
    refine g_icmp_ge 39 49 rfl C dJ1_clear_36 rfl (fun u36 => ?_) (fun u36 => ?_)
    · have w := w.1 u36
      refine g_sub [none, none, none] [] rfl rfl ?_
      exact wk_J1_clear_b49 C Rr N _ w
    · have w := w.2 u36
      refine g_aload_n 40 rfl C dJ1_clear_39 rfl ?_
      refine g_iload_n 41 rfl C dJ1_clear_40 rfl ?_
      refine g_null 42 rfl C dJ1_clear_41 ?_
      obtain ⟨j37, e38, e39, w⟩ := w
      refine g_aastore 51 43 rfl C dJ1_clear_42 (by decide) rfl e34 e38 e39 ?_
      have w := w _ rfl
      refine g_iinc 46 rfl C dJ1_clear_43 rfl _ rfl (by decide) (rfl : _ = [none, some (vR [51] _), some (vI _)]) ?_
      refine g_goto 33 C dJ1_clear_46 rfl ?_
      refine g_sub [none, some none, some none] [] rfl rfl ?_
      exact ih _ _ _ w
def wp_J1_clear (h : Hp) (x0 : Option Nat) (K : Hp → Prop) : Prop :=
  (∃ a26, x0 = some a26 ∧ (∀ h28, h28 = wI h 16 a26 ((it h 16 a26) + 1) → (((rf h28 13 a26) = none → (wp_J1_clear_b49 K h28)) ∧ (∀ a30, (rf h28 13 a26) = some a30 → (((it h28 15 a26) ≤ 0 → (wp_J1_clear_b49 K h28)) ∧ (¬ (it h28 15 a26) ≤ 0 → (∀ h32, h32 = wI h28 15 a26 0 → (∃ n, wp_J1_clear_b33 K n h32 (rf h28 13 a26) 0))))))))
set_option maxHeartbeats 4000000 in
theorem wk_J1_clear {X : Fx} {K : Hp → Prop} (C : Cx X cJ1_clear yJ1_clear.cls 3 2) (Rr : Rx X (Option.none : Option Jvm.ClassFile.FieldType) (pV K)) (N : Nm X yJ1_clear.name) (h : Hp) (x0 : Option Nat) (w : wp_J1_clear h x0 K) : Gd X h 0 [some (vR [2, 3] x0), none, none] [] := by
  unfold wp_J1_clear at w
  refine g_aload_n 1 rfl C dJ1_clear_0 rfl ?_
  refine g_dup 2 rfl C dJ1_clear_1 rfl ?_
  obtain ⟨a26, e27, w⟩ := w
  refine g_getI 5 rfl C dJ1_clear_2 fl_HashMap_202 rfl e27 rfl ?_
  refine g_iconst 6 rfl C dJ1_clear_5 1 rfl ?_
  refine g_iadd 7 rfl C dJ1_clear_6 ?_
  refine g_putI 10 rfl C dJ1_clear_7 fl_HashMap_202 rfl rfl e27 rfl ?_
  have w := w _ rfl
  refine g_aload_n 11 rfl C dJ1_clear_10 rfl ?_
  refine g_getR 14 rfl C dJ1_clear_11 fl_HashMap_105 rfl e27 rfl ?_
  refine g_dup 15 rfl C dJ1_clear_14 rfl ?_
  refine g_astore_n 16 rfl C dJ1_clear_15 (by decide) (rfl : _ = [some (vR [2, 3] _), some (vR [51] _), none]) ?_
  refine g_ifnull 19 49 rfl C dJ1_clear_16 rfl (fun u29 => ?_) (fun a30 u29 => ?_)
  · have w := w.1 u29
    refine g_sub [none, none, none] [] rfl rfl ?_
    exact wk_J1_clear_b49 C Rr N _ w
  · have w := w.2 a30 u29
    refine g_aload_n 20 rfl C dJ1_clear_19 rfl ?_
    refine g_getI 23 rfl C dJ1_clear_20 fl_HashMap_156 rfl e27 rfl ?_
    refine g_if_le 26 49 rfl C dJ1_clear_23 rfl (fun u31 => ?_) (fun u31 => ?_)
    · have w := w.1 u31
      refine g_sub [none, none, none] [] rfl rfl ?_
      exact wk_J1_clear_b49 C Rr N _ w
    · have w := w.2 u31
      refine g_aload_n 27 rfl C dJ1_clear_26 rfl ?_
      refine g_iconst 28 rfl C dJ1_clear_27 0 rfl ?_
      refine g_putI 31 rfl C dJ1_clear_28 fl_HashMap_156 rfl rfl e27 rfl ?_
      have w := w _ rfl
      refine g_iconst 32 rfl C dJ1_clear_31 0 rfl ?_
      refine g_istore_n 33 rfl C dJ1_clear_32 (by decide) (rfl : _ = [some (vR [2, 3] _), some (vR [51] _), some (vI _)]) ?_
      refine g_sub [none, some none, some none] [] rfl rfl ?_
      obtain ⟨n9, w⟩ := w
      exact wk_J1_clear_b33 C Rr N n9 _ _ _ w
theorem ct_J1_clear {E : Gx} (GE : Glob E) {h : Hp} {x0 : Option Nat} {K : Hp → Prop} (w : wp_J1_clear h x0 K) : Ct E yJ1_clear cJ1_clear 3 (Option.none : Option Jvm.ClassFile.FieldType) 2 [vR [2, 3] x0] h (pV K) :=
  Ct.of GE (by decide +kernel) (by simp [lvA, t2]) rfl (fun X hX C Rr N => wk_J1_clear C Rr N h x0 w)
def wp_J13_init (h : Hp) (x0 : Option Nat) (x1 : Option Nat) (K : Hp → Prop) : Prop :=
  (∃ a11, x0 = some a11 ∧ (∀ h13, h13 = wR h 27 a11 x1 → (wp_J12_init h13 x0 (fun h16 => Ex h13 h16 → (K h16)))))
set_option maxHeartbeats 4000000 in
theorem wk_J13_init {X : Fx} {K : Hp → Prop} (C : Cx X cJ13_init yJ13_init.cls 2 4) (Rr : Rx X (Option.none : Option Jvm.ClassFile.FieldType) (pV K)) (N : Nm X yJ13_init.name) (h : Hp) (x0 : Option Nat) (x1 : Option Nat) (w : wp_J13_init h x0 x1 K) : Gd X h 0 [some (vR [8] x0), some (vR [2, 3] x1)] [] := by
  unfold wp_J13_init at w
  refine g_aload_n 1 rfl C dJ13_init_0 rfl ?_
  refine g_aload_n 2 rfl C dJ13_init_1 rfl ?_
  obtain ⟨a11, e12, w⟩ := w
  refine g_putRF 5 rfl C N dJ13_init_2 fl_HashMap_KeySet_1 ⟨rfl, rfl⟩ rfl rfl e12 rfl ?_
  have w := w _ rfl
  refine g_aload_n 6 rfl C dJ13_init_5 rfl ?_
  refine g_sub [some none, some none] [some [8, 9, 10]] rfl rfl ?_
  refine g_callI (As := []) (T := [8, 9, 10]) (st := []) 9 rfl C dJ13_init_6 q661 q641 q26 q642 rfl okn_08ccbc (by decide) (by decide) (Nat.le_of_ble_eq_true rfl) e12 rfl (ct_J12_init C.glob w) (fun r0 h16 p17 x18 _ => ?_)
  obtain ⟨rfl, w⟩ := p17
  have w := w x18
  change Gd _ _ _ _ []
  exact g_vreturn C Rr dJ13_init_9 ⟨rfl, w⟩
theorem ct_J13_init {E : Gx} (GE : Glob E) {h : Hp} {x0 : Option Nat} {x1 : Option Nat} {K : Hp → Prop} (w : wp_J13_init h x0 x1 K) : Ct E yJ13_init cJ13_init 2 (Option.none : Option Jvm.ClassFile.FieldType) 4 [vR [8] x0, vR [2, 3] x1] h (pV K) :=
  Ct.of GE (by decide +kernel) (by simp [lvA, t2]) rfl (fun X hX C Rr N => wk_J13_init C Rr N h x0 x1 w)
def wp_J1_keySet_b23 (K : Option Nat → Hp → Prop) (h : Hp) (l1 : Option Nat) : Prop :=
  (K l1 h)
set_option maxHeartbeats 4000000 in
theorem wk_J1_keySet_b23 {X : Fx} {K : Option Nat → Hp → Prop} (C : Cx X cJ1_keySet yJ1_keySet.cls 2 5) (Rr : Rx X (Option.some (Jvm.ClassFile.FieldType.object "java/util/Set")) (pR [8, 9, 10] K)) (N : Nm X yJ1_keySet.name) (h : Hp) (l1 : Option Nat) (w : wp_J1_keySet_b23 K h l1) : Gd X h 23 [none, some (vR [8] l1)] [] := by
  unfold wp_J1_keySet_b23 at w
  refine g_aload_n 24 rfl C dJ1_keySet_23 rfl ?_
  exact g_areturn [8, 9, 10] C Rr rfl dJ1_keySet_24 rfl ⟨_, rfl, w⟩
def wp_J1_keySet (h : Hp) (x0 : Option Nat) (K : Option Nat → Hp → Prop) : Prop :=
  (∃ a19, x0 = some a19 ∧ (((rf h 11 a19) = none → (Rm h 1 1 ∧ ∀ a23, kd h a23 = 0 → ∀ h24, h24 = nw h a23 8 0 → (wp_J13_init h24 (some a23) x0 (fun h29 => Ex h24 h29 → (∀ h32, h32 = wR h29 11 a19 (some a23) → (wp_J1_keySet_b23 K h32 (some a23))))))) ∧ (∀ a22, (rf h 11 a19) = some a22 → (wp_J1_keySet_b23 K h (rf h 11 a19)))))
set_option maxHeartbeats 4000000 in
theorem wk_J1_keySet {X : Fx} {K : Option Nat → Hp → Prop} (C : Cx X cJ1_keySet yJ1_keySet.cls 2 5) (Rr : Rx X (Option.some (Jvm.ClassFile.FieldType.object "java/util/Set")) (pR [8, 9, 10] K)) (N : Nm X yJ1_keySet.name) (h : Hp) (x0 : Option Nat) (w : wp_J1_keySet h x0 K) : Gd X h 0 [some (vR [2, 3] x0), none] [] := by
  unfold wp_J1_keySet at w
  refine g_aload_n 1 rfl C dJ1_keySet_0 rfl ?_
  obtain ⟨a19, e20, w⟩ := w
  refine g_getR 4 rfl C dJ1_keySet_1 fl_HashMap_239 rfl e20 rfl ?_
  refine g_astore_n 5 rfl C dJ1_keySet_4 (by decide) (rfl : _ = [some (vR [2, 3] _), some (vR [8] _)]) ?_
  refine g_aload_n 6 rfl C dJ1_keySet_5 rfl ?_
  refine g_ifnonnull 9 23 rfl C dJ1_keySet_6 rfl (fun a22 u21 => ?_) (fun u21 => ?_)
  · have w := w.2 a22 u21
    refine g_sub [none, some none] [] rfl rfl ?_
    exact wk_J1_keySet_b23 C Rr N _ _ w
  · have w := w.1 u21
    obtain ⟨r25, w⟩ := w
    refine g_new 8 12 rfl C dJ1_keySet_9 rfl q656 q657 q27 r25 (fun a23 z26 => ?_)
    have w := w a23 z26 _ rfl
    refine g_dup 13 rfl C dJ1_keySet_12 rfl ?_
    refine g_aload_n 14 rfl C dJ1_keySet_13 rfl ?_
    refine g_callI (As := [vR [2, 3] _]) (T := [8]) (st := [vR [8] _]) 17 rfl C dJ1_keySet_14 q658 q659 q27 q660 rfl okn_4dc7c7 (by decide) (by decide) (Nat.le_of_ble_eq_true rfl) rfl rfl (ct_J13_init C.glob w) (fun r0 h29 p30 x31 _ => ?_)
    obtain ⟨rfl, w⟩ := p30
    have w := w x31
    change Gd _ _ _ _ [vR [8] _]
    refine g_astore_n 18 rfl C dJ1_keySet_17 (by decide) (rfl : _ = [some (vR [2, 3] _), some (vR [8] _)]) ?_
    refine g_aload_n 19 rfl C dJ1_keySet_18 rfl ?_
    refine g_aload_n 20 rfl C dJ1_keySet_19 rfl ?_
    refine g_putR 23 rfl C dJ1_keySet_20 fl_HashMap_239 rfl rfl rfl e20 rfl ?_
    have w := w _ rfl
    refine g_sub [none, some none] [] rfl rfl ?_
    exact wk_J1_keySet_b23 C Rr N _ _ w
theorem ct_J1_keySet {E : Gx} (GE : Glob E) {h : Hp} {x0 : Option Nat} {K : Option Nat → Hp → Prop} (w : wp_J1_keySet h x0 K) : Ct E yJ1_keySet cJ1_keySet 2 (Option.some (Jvm.ClassFile.FieldType.object "java/util/Set")) 5 [vR [2, 3] x0] h (pR [8, 9, 10] K) :=
  Ct.of GE (by decide +kernel) (by simp [lvA, t2]) rfl (fun X hX C Rr N => wk_J1_keySet C Rr N h x0 w)
def wp_J10_getExponent (h : Hp) (x0 : UInt64) (K : Int32 → Hp → Prop) : Prop :=
  (K ((((((vbD x0) &&& (9218868437227405312 : Int64)) >>> ((52 : Int32).toInt64 &&& 63)) - (1023 : Int64)) : Int64).toInt32) h)
set_option maxHeartbeats 4000000 in
theorem wk_J10_getExponent {X : Fx} {K : Int32 → Hp → Prop} (C : Cx X cJ10_getExponent yJ10_getExponent.cls 2 2) (Rr : Rx X (Option.some Jvm.ClassFile.FieldType.int) (pI K)) (N : Nm X yJ10_getExponent.name) (h : Hp) (x0 : UInt64) (w : wp_J10_getExponent h x0 K) : Gd X h 0 [some (vD x0), none] [] := by
  unfold wp_J10_getExponent at w
  refine g_dload_n 1 rfl C dJ10_getExponent_0 rfl ?_
  refine g_d2l 4 rfl C dJ10_getExponent_1 q883 (by decide) (Nat.le_of_ble_eq_true rfl) ?_
  refine g_ldc2 7 rfl C dJ10_getExponent_4 q886 ?_
  refine g_land 8 rfl C dJ10_getExponent_7 ?_
  refine g_bipush 10 rfl C dJ10_getExponent_8 52 (by decide) ?_
  refine g_lshr 11 rfl C dJ10_getExponent_10 ?_
  refine g_ldc2 14 rfl C dJ10_getExponent_11 q887 ?_
  refine g_lsub 15 rfl C dJ10_getExponent_14 ?_
  refine g_l2i 16 rfl C dJ10_getExponent_15 ?_
  exact g_ireturn C Rr dJ10_getExponent_16 ⟨_, rfl, w⟩
theorem ct_J10_getExponent {E : Gx} (GE : Glob E) {h : Hp} {x0 : UInt64} {K : Int32 → Hp → Prop} (w : wp_J10_getExponent h x0 K) : Ct E yJ10_getExponent cJ10_getExponent 2 (Option.some Jvm.ClassFile.FieldType.int) 2 [vD x0] h (pI K) :=
  Ct.ofF GE (by decide +kernel) (by simp [lvA, t2]) rfl (fun X hX C Rr N => wk_J10_getExponent C Rr N h x0 w)
def wp_J10_floorMod_b18 (K : Int32 → Hp → Prop) (h : Hp) (l2 : Int32) : Prop :=
  (K l2 h)
set_option maxHeartbeats 4000000 in
theorem wk_J10_floorMod_b18 {X : Fx} {K : Int32 → Hp → Prop} (C : Cx X cJ10_floorMod yJ10_floorMod.cls 3 2) (Rr : Rx X (Option.some Jvm.ClassFile.FieldType.int) (pI K)) (N : Nm X yJ10_floorMod.name) (h : Hp) (l2 : Int32) (w : wp_J10_floorMod_b18 K h l2) : Gd X h 18 [none, none, some (vI l2)] [] := by
  unfold wp_J10_floorMod_b18 at w
  refine g_iload_n 19 rfl C dJ10_floorMod_18 rfl ?_
  exact g_ireturn C Rr dJ10_floorMod_19 ⟨_, rfl, w⟩
def wp_J10_floorMod (h : Hp) (x0 : Int32) (x1 : Int32) (K : Int32 → Hp → Prop) : Prop :=
  (¬ (x1 : Int32) = 0 ∧ ((0 ≤ (x0 ^^^ x1) → (wp_J10_floorMod_b18 K h (x0 - x0 / x1 * x1))) ∧ (¬ 0 ≤ (x0 ^^^ x1) → (((x0 - x0 / x1 * x1) = 0 → (wp_J10_floorMod_b18 K h (x0 - x0 / x1 * x1))) ∧ (¬ (x0 - x0 / x1 * x1) = 0 → (K ((x0 - x0 / x1 * x1) + x1) h))))))
set_option maxHeartbeats 4000000 in
theorem wk_J10_floorMod {X : Fx} {K : Int32 → Hp → Prop} (C : Cx X cJ10_floorMod yJ10_floorMod.cls 3 2) (Rr : Rx X (Option.some Jvm.ClassFile.FieldType.int) (pI K)) (N : Nm X yJ10_floorMod.name) (h : Hp) (x0 : Int32) (x1 : Int32) (w : wp_J10_floorMod h x0 x1 K) : Gd X h 0 [some (vI x0), some (vI x1), none] [] := by
  unfold wp_J10_floorMod at w
  refine g_iload_n 1 rfl C dJ10_floorMod_0 rfl ?_
  refine g_iload_n 2 rfl C dJ10_floorMod_1 rfl ?_
  obtain ⟨e4, w⟩ := w
  refine g_irem 3 rfl C dJ10_floorMod_2 e4 ?_
  refine g_istore_n 4 rfl C dJ10_floorMod_3 (by decide) (rfl : _ = [some (vI _), some (vI _), some (vI _)]) ?_
  refine g_iload_n 5 rfl C dJ10_floorMod_4 rfl ?_
  refine g_iload_n 6 rfl C dJ10_floorMod_5 rfl ?_
  refine g_ixor 7 rfl C dJ10_floorMod_6 ?_
  refine g_if_ge 10 18 rfl C dJ10_floorMod_7 rfl (fun u5 => ?_) (fun u5 => ?_)
  · have w := w.1 u5
    refine g_sub [none, none, some none] [] rfl rfl ?_
    exact wk_J10_floorMod_b18 C Rr N _ _ w
  · have w := w.2 u5
    refine g_iload_n 11 rfl C dJ10_floorMod_10 rfl ?_
    refine g_if_eq 14 18 rfl C dJ10_floorMod_11 rfl (fun u6 => ?_) (fun u6 => ?_)
    · have w := w.1 u6
      refine g_sub [none, none, some none] [] rfl rfl ?_
      exact wk_J10_floorMod_b18 C Rr N _ _ w
    · have w := w.2 u6
      refine g_iload_n 15 rfl C dJ10_floorMod_14 rfl ?_
      refine g_iload_n 16 rfl C dJ10_floorMod_15 rfl ?_
      refine g_iadd 17 rfl C dJ10_floorMod_16 ?_
      exact g_ireturn C Rr dJ10_floorMod_17 ⟨_, rfl, w⟩
theorem ct_J10_floorMod {E : Gx} (GE : Glob E) {h : Hp} {x0 : Int32} {x1 : Int32} {K : Int32 → Hp → Prop} (w : wp_J10_floorMod h x0 x1 K) : Ct E yJ10_floorMod cJ10_floorMod 3 (Option.some Jvm.ClassFile.FieldType.int) 2 [vI x0, vI x1] h (pI K) :=
  Ct.ofF GE (by decide +kernel) (by simp [lvA, t2]) rfl (fun X hX C Rr N => wk_J10_floorMod C Rr N h x0 x1 w)
def wp_J10_min_b10 (K : Int32 → Hp → Prop) (h : Hp) (s0 : Int32) : Prop :=
  (K s0 h)
set_option maxHeartbeats 4000000 in
theorem wk_J10_min_b10 {X : Fx} {K : Int32 → Hp → Prop} (C : Cx X cJ10_min yJ10_min.cls 2 2) (Rr : Rx X (Option.some Jvm.ClassFile.FieldType.int) (pI K)) (N : Nm X yJ10_min.name) (h : Hp) (s0 : Int32) (w : wp_J10_min_b10 K h s0) : Gd X h 10 [none, none] [vI s0] := by
  unfold wp_J10_min_b10 at w
  exact g_ireturn C Rr dJ10_min_10 ⟨_, rfl, w⟩
def wp_J10_min (h : Hp) (x0 : Int32) (x1 : Int32) (K : Int32 → Hp → Prop) : Prop :=
  ((x1 < x0 → (wp_J10_min_b10 K h x1)) ∧ (¬ x1 < x0 → (wp_J10_min_b10 K h x0)))
set_option maxHeartbeats 4000000 in
theorem wk_J10_min {X : Fx} {K : Int32 → Hp → Prop} (C : Cx X cJ10_min yJ10_min.cls 2 2) (Rr : Rx X (Option.some Jvm.ClassFile.FieldType.int) (pI K)) (N : Nm X yJ10_min.name) (h : Hp) (x0 : Int32) (x1 : Int32) (w : wp_J10_min h x0 x1 K) : Gd X h 0 [some (vI x0), some (vI x1)] [] := by
  unfold wp_J10_min at w
  refine g_iload_n 1 rfl C dJ10_min_0 rfl ?_
  refine g_iload_n 2 rfl C dJ10_min_1 rfl ?_
  refine g_icmp_gt 5 9 rfl C dJ10_min_2 rfl (fun u2 => ?_) (fun u2 => ?_)
  · have w := w.1 u2
    refine g_iload_n 10 rfl C dJ10_min_9 rfl ?_
    refine g_sub [none, none] [none] rfl rfl ?_
    exact wk_J10_min_b10 C Rr N _ _ w
  · have w := w.2 u2
    refine g_iload_n 6 rfl C dJ10_min_5 rfl ?_
    refine g_goto 10 C dJ10_min_6 rfl ?_
    refine g_sub [none, none] [none] rfl rfl ?_
    exact wk_J10_min_b10 C Rr N _ _ w
theorem ct_J10_min {E : Gx} (GE : Glob E) {h : Hp} {x0 : Int32} {x1 : Int32} {K : Int32 → Hp → Prop} (w : wp_J10_min h x0 x1 K) : Ct E yJ10_min cJ10_min 2 (Option.some Jvm.ClassFile.FieldType.int) 2 [vI x0, vI x1] h (pI K) :=
  Ct.ofF GE (by decide +kernel) (by simp [lvA, t2]) rfl (fun X hX C Rr N => wk_J10_min C Rr N h x0 x1 w)
def wp_J15_remove_b62 (K : Hp → Prop) (h : Hp) (l0 : Option Nat) (s0 : Option Nat) : Prop :=
  (∃ a50, l0 = some a50 ∧ (∃ a52, (rf h 35 a50) = some a52 ∧ (∀ h54, h54 = wI h 33 a50 (it h 16 a52) → (K h54))))
set_option maxHeartbeats 4000000 in
theorem wk_J15_remove_b62 {X : Fx} {K : Hp → Prop} (C : Cx X cJ15_remove yJ15_remove.cls 2 8) (Rr : Rx X (Option.none : Option Jvm.ClassFile.FieldType) (pV K)) (N : Nm X yJ15_remove.name) (h : Hp) (l0 : Option Nat) (s0 : Option Nat) (w : wp_J15_remove_b62 K h l0 s0) : Gd X h 62 [some (vR [11, 12] l0), none] [vR [5, 6, 7] s0] := by
  unfold wp_J15_remove_b62 at w
  refine g_pop 63 rfl C dJ15_remove_62 rfl ?_
  refine g_aload_n 64 rfl C dJ15_remove_63 rfl ?_
  refine g_aload_n 65 rfl C dJ15_remove_64 rfl ?_
  obtain ⟨a50, e51, w⟩ := w
  refine g_getR 68 rfl C dJ15_remove_65 fl_HashMap_HashIterator_1 rfl e51 rfl ?_
  obtain ⟨a52, e53, w⟩ := w
  refine g_getI 71 rfl C dJ15_remove_68 fl_HashMap_HashIterator_13 rfl e53 rfl ?_
  refine g_putI 74 rfl C dJ15_remove_71 fl_HashMap_HashIterator_19 rfl rfl e51 rfl ?_
  have w := w _ rfl
  exact g_vreturn C Rr dJ15_remove_74 ⟨rfl, w⟩
def wp_J15_remove (h : Hp) (x0 : Option Nat) (K : Hp → Prop) : Prop :=
  (∃ a35, x0 = some a35 ∧ (((rf h 32 a35) = none → False) ∧ (∀ a38, (rf h 32 a35) = some a38 → (∃ a39, (rf h 35 a35) = some a39 ∧ (((it h 16 a39) = (it h 33 a35) → (∀ h42, h42 = wR h 32 a35 none → (∃ a43, (rf h42 35 a35) = some a43 ∧ (wp_J1_removeNode h42 (rf h42 35 a35) (it h42 0 a38) (rf h42 1 a38) none 0 0 (fun r46 h47 => Ex h42 h47 → (wp_J15_remove_b62 K h47 x0 r46)))))) ∧ (¬ (it h 16 a39) = (it h 33 a35) → False))))))
set_option maxHeartbeats 4000000 in
theorem wk_J15_remove {X : Fx} {K : Hp → Prop} (C : Cx X cJ15_remove yJ15_remove.cls 2 8) (Rr : Rx X (Option.none : Option Jvm.ClassFile.FieldType) (pV K)) (N : Nm X yJ15_remove.name) (h : Hp) (x0 : Option Nat) (w : wp_J15_remove h x0 K) : Gd X h 0 [some (vR [11, 12] x0), none] [] := by
  unfold wp_J15_remove at w
  refine g_aload_n 1 rfl C dJ15_remove_0 rfl ?_
  obtain ⟨a35, e36, w⟩ := w
  refine g_getR 4 rfl C dJ15_remove_1 fl_HashMap_HashIterator_30 rfl e36 rfl ?_
  refine g_astore_n 5 rfl C dJ15_remove_4 (by decide) (rfl : _ = [some (vR [11, 12] _), some (vR [5, 6, 7] _)]) ?_
  refine g_aload_n 6 rfl C dJ15_remove_5 rfl ?_
  refine g_ifnonnull 9 17 rfl C dJ15_remove_6 rfl (fun a38 u37 => ?_) (fun u37 => ?_)
  · have w := w.2 a38 u37
    refine g_aload_n 18 rfl C dJ15_remove_17 rfl ?_
    refine g_getR 21 rfl C dJ15_remove_18 fl_HashMap_HashIterator_1 rfl e36 rfl ?_
    obtain ⟨a39, e40, w⟩ := w
    refine g_getI 24 rfl C dJ15_remove_21 fl_HashMap_HashIterator_13 rfl e40 rfl ?_
    refine g_aload_n 25 rfl C dJ15_remove_24 rfl ?_
    refine g_getI 28 rfl C dJ15_remove_25 fl_HashMap_HashIterator_19 rfl e36 rfl ?_
    refine g_icmp_eq 31 39 rfl C dJ15_remove_28 rfl (fun u41 => ?_) (fun u41 => ?_)
    · have w := w.1 u41
      refine g_aload_n 40 rfl C dJ15_remove_39 rfl ?_
      refine g_null 41 rfl C dJ15_remove_40 ?_
      refine g_putR 44 rfl C dJ15_remove_41 fl_HashMap_HashIterator_30 rfl rfl rfl e36 rfl ?_
      have w := w _ rfl
      refine g_aload_n 45 rfl C dJ15_remove_44 rfl ?_
      refine g_getR 48 rfl C dJ15_remove_45 fl_HashMap_HashIterator_1 rfl e36 rfl ?_
      refine g_aload_n 49 rfl C dJ15_remove_48 rfl ?_
      refine g_getI 52 rfl C dJ15_remove_49 fl_HashMap_HashIterator_51 rfl u37 rfl ?_
      refine g_aload_n 53 rfl C dJ15_remove_52 rfl ?_
      refine g_getR 56 rfl C dJ15_remove_53 fl_HashMap_HashIterator_54 rfl u37 rfl ?_
      refine g_null 57 rfl C dJ15_remove_56 ?_
      refine g_iconst 58 rfl C dJ15_remove_57 0 rfl ?_
      refine g_iconst 59 rfl C dJ15_remove_58 0 rfl ?_
      obtain ⟨a43, e44, w⟩ := w
      refine g_known 5 rfl e44 (fun k45 => ?_)
      have k45 : kd _ _ ∈ [2, 3] := k45
      simp only [List.mem_cons, List.not_mem_nil, or_false] at k45
      rcases k45 with k45 | k45
      · refine g_sub [some none, some none] [none, none, some [4, 60], none, none, none] rfl rfl ?_
        refine g_callU (As := [vI _, vR [4, 60] _, vR [4, 60] _, vI _, vI _]) (T := [2, 3]) (st := []) "java/util/HashMap" 62 rfl C dJ15_remove_59 q1007 q547 dcl_175649 q546 q545 q11 q549 okn_d60e16 (by decide) (by decide) (Nat.le_of_ble_eq_true rfl) e44 (fun _ => kC rfl k45) rfl (ct_J1_removeNode C.glob w) (fun r0 h47 p48 x49 _ => ?_)
        obtain ⟨r46, rfl, w⟩ := p48
        have w := w x49
        change Gd _ _ _ _ (vR [5, 6, 7] r46 :: [])
        refine g_sub [some none, none] [none] rfl rfl ?_
        exact wk_J15_remove_b62 C Rr N _ _ _ w
      · refine g_sub [some none, some none] [none, none, some [4, 60], none, none, none] rfl rfl ?_
        refine g_callU (As := [vI _, vR [4, 60] _, vR [4, 60] _, vI _, vI _]) (T := [2, 3]) (st := []) "java/util/LinkedHashMap" 62 rfl C dJ15_remove_59 q1007 q547 dcl_175649 q548 q545 q11 q549 okn_d60e16 (by decide) (by decide) (Nat.le_of_ble_eq_true rfl) e44 (fun _ => kC rfl k45) rfl (ct_J1_removeNode C.glob w) (fun r0 h47 p48 x49 _ => ?_)
        obtain ⟨r46, rfl, w⟩ := p48
        have w := w x49
        change Gd _ _ _ _ (vR [5, 6, 7] r46 :: [])
        refine g_sub [some none, none] [none] rfl rfl ?_
        exact wk_J15_remove_b62 C Rr N _ _ _ w
    · have w := w.2 u41
      exact w.elim
  · have w := w.1 u37
    exact w.elim
theorem ct_J15_remove {E : Gx} (GE : Glob E) {h : Hp} {x0 : Option Nat} {K : Hp → Prop} (w : wp_J15_remove h x0 K) : Ct E yJ15_remove cJ15_remove 2 (Option.none : Option Jvm.ClassFile.FieldType) 8 [vR [11, 12] x0] h (pV K) :=
  Ct.of GE (by decide +kernel) (by simp [lvA, t2]) rfl (fun X hX C Rr N => wk_J15_remove C Rr N h x0 w)
def wp_J18_remove (h : Hp) (x0 : Option Nat) (K : Hp → Prop) : Prop :=
  (∃ a35, x0 = some a35 ∧ (((rf h 37 a35) = none → False) ∧ (∀ a38, (rf h 37 a35) = some a38 → (∃ a39, (rf h 40 a35) = some a39 ∧ (((it h 16 a39) = (it h 38 a35) → (∀ h42, h42 = wR h 37 a35 none → (∃ a43, (rf h42 40 a35) = some a43 ∧ (wp_J1_removeNode h42 (rf h42 40 a35) (it h42 0 a38) (rf h42 1 a38) none 0 0 (fun r46 h47 => Ex h42 h47 → (∃ a50, (rf h47 40 a35) = some a50 ∧ (∀ h52, h52 = wI h47 38 a35 (it h47 16 a50) → (K h52)))))))) ∧ (¬ (it h 16 a39) = (it h 38 a35) → False))))))
set_option maxHeartbeats 4000000 in
theorem wk_J18_remove {X : Fx} {K : Hp → Prop} (C : Cx X cJ18_remove yJ18_remove.cls 2 8) (Rr : Rx X (Option.none : Option Jvm.ClassFile.FieldType) (pV K)) (N : Nm X yJ18_remove.name) (h : Hp) (x0 : Option Nat) (w : wp_J18_remove h x0 K) : Gd X h 0 [some (vR [13] x0), none] [] := by
  unfold wp_J18_remove at w
  refine g_aload_n 1 rfl C dJ18_remove_0 rfl ?_
  obtain ⟨a35, e36, w⟩ := w
  refine g_getR 4 rfl C dJ18_remove_1 fl_LinkedHashMap_LinkedHashIterator_36 rfl e36 rfl ?_
  refine g_astore_n 5 rfl C dJ18_remove_4 (by decide) (rfl : _ = [some (vR [13] _), some (vR [6, 7] _)]) ?_
  refine g_aload_n 6 rfl C dJ18_remove_5 rfl ?_
  refine g_ifnonnull 9 17 rfl C dJ18_remove_6 rfl (fun a38 u37 => ?_) (fun u37 => ?_)
  · have w := w.2 a38 u37
    refine g_aload_n 18 rfl C dJ18_remove_17 rfl ?_
    refine g_getR 21 rfl C dJ18_remove_18 fl_LinkedHashMap_LinkedHashIterator_1 rfl e36 rfl ?_
    obtain ⟨a39, e40, w⟩ := w
    refine g_getI 24 rfl C dJ18_remove_21 fl_LinkedHashMap_LinkedHashIterator_29 rfl e40 rfl ?_
    refine g_aload_n 25 rfl C dJ18_remove_24 rfl ?_
    refine g_getI 28 rfl C dJ18_remove_25 fl_LinkedHashMap_LinkedHashIterator_33 rfl e36 rfl ?_
    refine g_icmp_eq 31 39 rfl C dJ18_remove_28 rfl (fun u41 => ?_) (fun u41 => ?_)
    · have w := w.1 u41
      refine g_aload_n 40 rfl C dJ18_remove_39 rfl ?_
      refine g_null 41 rfl C dJ18_remove_40 ?_
      refine g_putR 44 rfl C dJ18_remove_41 fl_LinkedHashMap_LinkedHashIterator_36 rfl rfl rfl e36 rfl ?_
      have w := w _ rfl
      refine g_aload_n 45 rfl C dJ18_remove_44 rfl ?_
      refine g_getR 48 rfl C dJ18_remove_45 fl_LinkedHashMap_LinkedHashIterator_1 rfl e36 rfl ?_
      refine g_aload_n 49 rfl C dJ18_remove_48 rfl ?_
      refine g_getI 52 rfl C dJ18_remove_49 fl_LinkedHashMap_LinkedHashIterator_56 rfl u37 rfl ?_
      refine g_aload_n 53 rfl C dJ18_remove_52 rfl ?_
      refine g_getR 56 rfl C dJ18_remove_53 fl_LinkedHashMap_LinkedHashIterator_61 rfl u37 rfl ?_
      refine g_null 57 rfl C dJ18_remove_56 ?_
      refine g_iconst 58 rfl C dJ18_remove_57 0 rfl ?_
      refine g_iconst 59 rfl C dJ18_remove_58 0 rfl ?_
      obtain ⟨a43, e44, w⟩ := w
      refine g_known 5 rfl e44 (fun k45 => ?_)
      refine g_sub [some none, some none] [none, none, some [4, 60], none, none, some [2, 3]] rfl rfl ?_
      refine g_callU (As := [vI _, vR [4, 60] _, vR [4, 60] _, vI _, vI _]) (T := [2, 3]) (st := []) "java/util/LinkedHashMap" 62 rfl C dJ18_remove_59 q1015 q1016 dcl_175649 q1018 q545 q11 q549 okn_d60e16 (by decide) (by decide) (Nat.le_of_ble_eq_true rfl) e44 (fun _ => tC rfl k45) rfl (ct_J1_removeNode C.glob w) (fun r0 h47 p48 x49 _ => ?_)
      obtain ⟨r46, rfl, w⟩ := p48
      have w := w x49
      change Gd _ _ _ _ (vR [5, 6, 7] r46 :: [])
      refine g_pop 63 rfl C dJ18_remove_62 rfl ?_
      refine g_aload_n 64 rfl C dJ18_remove_63 rfl ?_
      refine g_aload_n 65 rfl C dJ18_remove_64 rfl ?_
      refine g_getR 68 rfl C dJ18_remove_65 fl_LinkedHashMap_LinkedHashIterator_1 rfl e36 rfl ?_
      obtain ⟨a50, e51, w⟩ := w
      refine g_getI 71 rfl C dJ18_remove_68 fl_LinkedHashMap_LinkedHashIterator_29 rfl e51 rfl ?_
      refine g_putI 74 rfl C dJ18_remove_71 fl_LinkedHashMap_LinkedHashIterator_33 rfl rfl e36 rfl ?_
      have w := w _ rfl
      exact g_vreturn C Rr dJ18_remove_74 ⟨rfl, w⟩
    · have w := w.2 u41
      exact w.elim
  · have w := w.1 u37
    exact w.elim
theorem ct_J18_remove {E : Gx} (GE : Glob E) {h : Hp} {x0 : Option Nat} {K : Hp → Prop} (w : wp_J18_remove h x0 K) : Ct E yJ18_remove cJ18_remove 2 (Option.none : Option Jvm.ClassFile.FieldType) 8 [vR [13] x0] h (pV K) :=
  Ct.of GE (by decide +kernel) (by simp [lvA, t2]) rfl (fun X hX C Rr N => wk_J18_remove C Rr N h x0 w)
