/-! WALKS (printed by emit.py): X1_sweep X1_raise X1_same X1_fill -/
set_option maxRecDepth 100000
def wp_X1_sweep_b12 (K : Int32 → Hp → Prop) (h : Hp)  : Prop :=
  (K (-1) h)
set_option maxHeartbeats 4000000 in
theorem wk_X1_sweep_b12 {X : Fx} {K : Int32 → Hp → Prop} (C : Cx X cX1_sweep yX1_sweep.cls 7 4) (Rr : Rx X (Option.some Jvm.ClassFile.FieldType.int) (pI K)) (N : Nm X yX1_sweep.name) (h : Hp)  (w : wp_X1_sweep_b12 K h ) : Gd X h 12 [none, none, none, none, none, none, none] [] := by
  unfold wp_X1_sweep_b12 at w
  refine g_iconst 13 rfl C dX1_sweep_12 (-1) rfl ?_
  exact g_ireturn C Rr dX1_sweep_13 ⟨_, rfl, w⟩
def wp_X1_sweep_b86 (G30 : Hp → Option Nat → Int32 → Int32 → Int32 → Int32 → Int32 → Prop) (K : Int32 → Hp → Prop) (h : Hp) (l0 : Option Nat) (l1 : Int32) (l2 : Int32) (l3 : Int32) (l4 : Int32) (l5 : Int32) : Prop :=
  (G30 h l0 l1 l2 l3 l4 (l5 + (-1)))
set_option maxHeartbeats 4000000 in
theorem wk_X1_sweep_b86 {X : Fx} {K : Int32 → Hp → Prop} (C : Cx X cX1_sweep yX1_sweep.cls 7 4) (Rr : Rx X (Option.some Jvm.ClassFile.FieldType.int) (pI K)) (N : Nm X yX1_sweep.name) {G30 : Hp → Option Nat → Int32 → Int32 → Int32 → Int32 → Int32 → Prop} (k30 : ∀ (h : Hp) (l0 : Option Nat) (l1 : Int32) (l2 : Int32) (l3 : Int32) (l4 : Int32) (l5 : Int32), G30 h l0 l1 l2 l3 l4 l5 → Gd X h 30 [some (vR [14] l0), some (vI l1), some (vI l2), some (vI l3), some (vI l4), some (vI l5), none] []) (h : Hp) (l0 : Option Nat) (l1 : Int32) (l2 : Int32) (l3 : Int32) (l4 : Int32) (l5 : Int32) (w : wp_X1_sweep_b86 G30 K h l0 l1 l2 l3 l4 l5) : Gd X h 86 [some (vR [14] l0), some (vI l1), some (vI l2), some (vI l3), some (vI l4), some (vI l5), none] [] := by
  unfold wp_X1_sweep_b86 at w
  refine g_iinc 89 rfl C dX1_sweep_86 rfl _ rfl (by decide) (rfl : _ = [some (vR [14] _), some (vI _), some (vI _), some (vI _), some (vI _), some (vI _), none]) ?_
  refine g_goto 30 C dX1_sweep_89 rfl ?_
  refine g_sub [some none, some none, some none, some none, some none, some none, none] [] rfl rfl ?_
  exact k30 _ _ _ _ _ _ _ w
def wp_X1_sweep_b30 (K : Int32 → Hp → Prop) : Nat → Hp → Option Nat → Int32 → Int32 → Int32 → Int32 → Int32 → Prop
  | 0 => fun _ _ _ _ _ _ _ => False
  | m9 + 1 => fun h l0 l1 l2 l3 l4 l5 =>
    ((l5 < 0 → (K l4 h)) ∧ (¬ l5 < 0 → (∃ a83, l0 = some a83 ∧ (∃ a85, (rf h 41 a83) = some a85 ∧ (∃ j87, l1 = nI j87 ∧ j87 < ln h a85 ∧ (∃ a90, (rf h (100 + j87) a85) = some a90 ∧ (∃ a92, (rf h 42 a90) = some a92 ∧ (∃ j94, l5 = nI j94 ∧ j94 < ln h a92 ∧ (∃ j97, l1 = nI j97 ∧ j97 < ln h a85 ∧ (∃ a100, (rf h (100 + j97) a85) = some a100 ∧ (∃ a102, (rf h 43 a100) = some a102 ∧ (∃ j104, (it h (100 + j94) a92) = nI j104 ∧ j104 < ln h a102 ∧ (wp_J10_floorMod h (it h (100 + j104) a102) l2 (fun r108 h109 => Ex h h109 → ((r108 = l3 → (∃ a113, (rf h109 41 a83) = some a113 ∧ (∃ j115, l1 = nI j115 ∧ j115 < ln h109 a113 ∧ (∃ a118, (rf h109 (100 + j115) a113) = some a118 ∧ (wp_X2_delete h109 (rf h109 (100 + j115) a113) (it h (100 + j94) a92) (fun h122 => Ex h109 h122 → (wp_X1_sweep_b86 (wp_X1_sweep_b30 K m9) K h122 l0 l1 l2 l3 (l4 + 1) l5))))))) ∧ (¬ r108 = l3 → (wp_X1_sweep_b86 (wp_X1_sweep_b30 K m9) K h109 l0 l1 l2 l3 l4 l5)))))))))))))))))
set_option maxHeartbeats 4000000 in
theorem wk_X1_sweep_b30 {X : Fx} {K : Int32 → Hp → Prop} (C : Cx X cX1_sweep yX1_sweep.cls 7 4) (Rr : Rx X (Option.some Jvm.ClassFile.FieldType.int) (pI K)) (N : Nm X yX1_sweep.name) : ∀ (n : Nat) (h : Hp) (l0 : Option Nat) (l1 : Int32) (l2 : Int32) (l3 : Int32) (l4 : Int32) (l5 : Int32), wp_X1_sweep_b30 K n h l0 l1 l2 l3 l4 l5 → Gd X h 30 [some (vR [14] l0), some (vI l1), some (vI l2), some (vI l3), some (vI l4), some (vI l5), none] [] := by
  intro n
  induction n with
  | zero => intro h l0 l1 l2 l3 l4 l5 w; exact w.elim
  | succ n ih =>
    intro h l0 l1 l2 l3 l4 l5 w
    unfold wp_X1_sweep_b30 at w
    refine g_iload 32 rfl C dX1_sweep_30 rfl ?_
    refine g_if_lt 35 92 rfl C dX1_sweep_32 rfl (fun u82 => ?_) (fun u82 => ?_)
    · have w := w.1 u82
      refine g_iload 94 rfl C dX1_sweep_92 rfl ?_
      exact g_ireturn C Rr dX1_sweep_94 ⟨_, rfl, w⟩
    · have w := w.2 u82
      refine g_aload_n 36 rfl C dX1_sweep_35 rfl ?_
      obtain ⟨a83, e84, w⟩ := w
      refine g_getR 39 rfl C dX1_sweep_36 fl_HashHallModel_12 rfl e84 rfl ?_
      refine g_iload_n 40 rfl C dX1_sweep_39 rfl ?_
      obtain ⟨a85, e86, w⟩ := w
      obtain ⟨j87, e88, e89, w⟩ := w
      refine g_aaload 52 41 rfl C dX1_sweep_40 (by decide) e86 e88 e89 ?_
      obtain ⟨a90, e91, w⟩ := w
      refine g_getR 44 rfl C dX1_sweep_41 fl_HashHallModel_54 rfl e91 rfl ?_
      refine g_iload 46 rfl C dX1_sweep_44 rfl ?_
      obtain ⟨a92, e93, w⟩ := w
      obtain ⟨j94, e95, e96, w⟩ := w
      refine g_iaload 47 rfl C dX1_sweep_46 e93 e95 e96 ?_
      refine g_istore 49 rfl C dX1_sweep_47 (by decide) (rfl : _ = [some (vR [14] _), some (vI _), some (vI _), some (vI _), some (vI _), some (vI _), some (vI _)]) ?_
      refine g_aload_n 50 rfl C dX1_sweep_49 rfl ?_
      refine g_getR 53 rfl C dX1_sweep_50 fl_HashHallModel_12 rfl e84 rfl ?_
      refine g_iload_n 54 rfl C dX1_sweep_53 rfl ?_
      obtain ⟨j97, e98, e99, w⟩ := w
      refine g_aaload 52 55 rfl C dX1_sweep_54 (by decide) e86 e98 e99 ?_
      obtain ⟨a100, e101, w⟩ := w
      refine g_getR 58 rfl C dX1_sweep_55 fl_HashHallModel_60 rfl e101 rfl ?_
      refine g_iload 60 rfl C dX1_sweep_58 rfl ?_
      obtain ⟨a102, e103, w⟩ := w
      obtain ⟨j104, e105, e106, w⟩ := w
      refine g_iaload 61 rfl C dX1_sweep_60 e103 e105 e106 ?_
      refine g_iload_n 62 rfl C dX1_sweep_61 rfl ?_
      refine g_callS (As := [vI _, vI _]) (st := []) 65 rfl C dX1_sweep_62 q1270 q996 q23 q997 okn_f26e60 (by decide) (by decide) (Nat.le_of_ble_eq_true rfl) rfl (ct_J10_floorMod C.glob w) (fun r0 h109 p110 x111 _ => ?_)
      obtain ⟨r108, rfl, w⟩ := p110
      have w := w x111
      change Gd _ _ _ _ (vI r108 :: [])
      refine g_iload_n 66 rfl C dX1_sweep_65 rfl ?_
      refine g_icmp_eq 69 72 rfl C dX1_sweep_66 rfl (fun u112 => ?_) (fun u112 => ?_)
      · have w := w.1 u112
        refine g_aload_n 73 rfl C dX1_sweep_72 rfl ?_
        refine g_getR 76 rfl C dX1_sweep_73 fl_HashHallModel_12 rfl e84 rfl ?_
        refine g_iload_n 77 rfl C dX1_sweep_76 rfl ?_
        obtain ⟨a113, e114, w⟩ := w
        obtain ⟨j115, e116, e117, w⟩ := w
        refine g_aaload 52 78 rfl C dX1_sweep_77 (by decide) e114 e116 e117 ?_
        refine g_iload 80 rfl C dX1_sweep_78 rfl ?_
        obtain ⟨a118, e119, w⟩ := w
        refine g_callV (As := [vI _]) (T := [15]) (st := []) "HashHallModel$Pairs" 83 rfl C dX1_sweep_80 q1228 q1229 q1230 q17 q1231 rfl okn_770c05 (by decide) (by decide) (Nat.le_of_ble_eq_true rfl) e119 (fun q => tC rfl q) rfl (ct_X2_delete C.glob w) (fun r0 h122 p123 x124 _ => ?_)
        obtain ⟨rfl, w⟩ := p123
        have w := w x124
        change Gd _ _ _ _ []
        refine g_iinc 86 rfl C dX1_sweep_83 rfl _ rfl (by decide) (rfl : _ = [some (vR [14] _), some (vI _), some (vI _), some (vI _), some (vI _), some (vI _), some (vI _)]) ?_
        refine g_sub [some none, some none, some none, some none, some none, some none, none] [] rfl rfl ?_
        exact wk_X1_sweep_b86 C Rr N ih _ _ _ _ _ _ _ w
      · have w := w.2 u112
        refine g_goto 86 C dX1_sweep_69 rfl ?_
        refine g_sub [some none, some none, some none, some none, some none, some none, none] [] rfl rfl ?_
        exact wk_X1_sweep_b86 C Rr N ih _ _ _ _ _ _ _ w
def wp_X1_sweep (h : Hp) (x0 : Option Nat) (x1 : Int32) (x2 : Int32) (x3 : Int32) (K : Int32 → Hp → Prop) : Prop :=
  (wp_X1_isMap h x1 (fun r67 h68 => Ex h h68 → ((r67 = 0 → (wp_X1_sweep_b12 K h68)) ∧ (¬ r67 = 0 → ((1 ≤ x2 → (∃ a73, x0 = some a73 ∧ (∃ a75, (rf h68 41 a73) = some a75 ∧ (∃ j77, x1 = nI j77 ∧ j77 < ln h68 a75 ∧ (∃ a80, (rf h68 (100 + j77) a75) = some a80 ∧ (∃ n, wp_X1_sweep_b30 K n h68 x0 x1 x2 x3 0 ((it h68 47 a80) - 1))))))) ∧ (¬ 1 ≤ x2 → (wp_X1_sweep_b12 K h68)))))))
set_option maxHeartbeats 4000000 in
theorem wk_X1_sweep {X : Fx} {K : Int32 → Hp → Prop} (C : Cx X cX1_sweep yX1_sweep.cls 7 4) (Rr : Rx X (Option.some Jvm.ClassFile.FieldType.int) (pI K)) (N : Nm X yX1_sweep.name) (h : Hp) (x0 : Option Nat) (x1 : Int32) (x2 : Int32) (x3 : Int32) (w : wp_X1_sweep h x0 x1 x2 x3 K) : Gd X h 0 [some (vR [14] x0), some (vI x1), some (vI x2), some (vI x3), none, none, none] [] := by
  unfold wp_X1_sweep at w
  refine g_iload_n 1 rfl C dX1_sweep_0 rfl ?_
  refine g_callS (As := [vI _]) (st := []) 4 rfl C dX1_sweep_1 q1157 q1158 q16 q1159 okn_52e77d (by decide) (by decide) (Nat.le_of_ble_eq_true rfl) rfl (ct_X1_isMap C.glob w) (fun r0 h68 p69 x70 _ => ?_)
  obtain ⟨r67, rfl, w⟩ := p69
  have w := w x70
  change Gd _ _ _ _ (vI r67 :: [])
  refine g_if_eq 7 12 rfl C dX1_sweep_4 rfl (fun u71 => ?_) (fun u71 => ?_)
  · have w := w.1 u71
    refine g_sub [none, none, none, none, none, none, none] [] rfl rfl ?_
    exact wk_X1_sweep_b12 C Rr N _ w
  · have w := w.2 u71
    refine g_iload_n 8 rfl C dX1_sweep_7 rfl ?_
    refine g_iconst 9 rfl C dX1_sweep_8 1 rfl ?_
    refine g_icmp_ge 12 14 rfl C dX1_sweep_9 rfl (fun u72 => ?_) (fun u72 => ?_)
    · have w := w.1 u72
      refine g_iconst 15 rfl C dX1_sweep_14 0 rfl ?_
      refine g_istore 17 rfl C dX1_sweep_15 (by decide) (rfl : _ = [some (vR [14] _), some (vI _), some (vI _), some (vI _), some (vI _), none, none]) ?_
      refine g_aload_n 18 rfl C dX1_sweep_17 rfl ?_
      obtain ⟨a73, e74, w⟩ := w
      refine g_getR 21 rfl C dX1_sweep_18 fl_HashHallModel_12 rfl e74 rfl ?_
      refine g_iload_n 22 rfl C dX1_sweep_21 rfl ?_
      obtain ⟨a75, e76, w⟩ := w
      obtain ⟨j77, e78, e79, w⟩ := w
      refine g_aaload 52 23 rfl C dX1_sweep_22 (by decide) e76 e78 e79 ?_
      obtain ⟨a80, e81, w⟩ := w
      refine g_getI 26 rfl C dX1_sweep_23 fl_HashHallModel_50 rfl e81 rfl ?_
      refine g_iconst 27 rfl C dX1_sweep_26 1 rfl ?_
      refine g_isub 28 rfl C dX1_sweep_27 ?_
      refine g_istore 30 rfl C dX1_sweep_28 (by decide) (rfl : _ = [some (vR [14] _), some (vI _), some (vI _), some (vI _), some (vI _), some (vI _), none]) ?_
      refine g_sub [some none, some none, some none, some none, some none, some none, none] [] rfl rfl ?_
      obtain ⟨n9, w⟩ := w
      exact wk_X1_sweep_b30 C Rr N n9 _ _ _ _ _ _ _ w
    · have w := w.2 u72
      refine g_sub [none, none, none, none, none, none, none] [] rfl rfl ?_
      exact wk_X1_sweep_b12 C Rr N _ w
theorem ct_X1_sweep {E : Gx} (GE : Glob E) {h : Hp} {x0 : Option Nat} {x1 : Int32} {x2 : Int32} {x3 : Int32} {K : Int32 → Hp → Prop} (w : wp_X1_sweep h x0 x1 x2 x3 K) : Ct E yX1_sweep cX1_sweep 7 (Option.some Jvm.ClassFile.FieldType.int) 4 [vR [14] x0, vI x1, vI x2, vI x3] h (pI K) :=
  Ct.of GE (by decide +kernel) (by simp [lvA, t2]) rfl (fun X hX C Rr N => wk_X1_sweep C Rr N h x0 x1 x2 x3 w)
def wp_X1_raise_b11 (K : Int32 → Hp → Prop) : Nat → Hp → Option Nat → Int32 → Int32 → Int32 → Prop
  | 0 => fun _ _ _ _ _ => False
  | m9 + 1 => fun h l0 l1 l2 l3 =>
    (∃ a66, l0 = some a66 ∧ (∃ a68, (rf h 41 a66) = some a68 ∧ (∃ j70, l1 = nI j70 ∧ j70 < ln h a68 ∧ (∃ a73, (rf h (100 + j70) a68) = some a73 ∧ (((it h 47 a73) ≤ l3 → (∃ j76, l1 = nI j76 ∧ j76 < ln h a68 ∧ (∃ a79, (rf h (100 + j76) a68) = some a79 ∧ (K (it h 47 a79) h)))) ∧ (¬ (it h 47 a73) ≤ l3 → (∃ j81, l1 = nI j81 ∧ j81 < ln h a68 ∧ (∃ a84, (rf h (100 + j81) a68) = some a84 ∧ (∃ j86, l1 = nI j86 ∧ j86 < ln h a68 ∧ (∃ a89, (rf h (100 + j86) a68) = some a89 ∧ (∃ a91, (rf h 42 a89) = some a91 ∧ (∃ j93, l3 = nI j93 ∧ j93 < ln h a91 ∧ (∃ a96, (rf h 44 a84) = some a96 ∧ (∃ j98, (it h (100 + j93) a91) = nI j98 ∧ j98 < ln h a96 ∧ (∃ j101, (it h (100 + j93) a91) = nI j101 ∧ j101 < ln h a96 ∧ ∀ h104, h104 = wI h (100 + j101) a96 ((it h (100 + j98) a96) + l2) → (wp_X1_raise_b11 K m9 h104 l0 l1 l2 (l3 + 1)))))))))))))))))
set_option maxHeartbeats 4000000 in
theorem wk_X1_raise_b11 {X : Fx} {K : Int32 → Hp → Prop} (C : Cx X cX1_raise yX1_raise.cls 4 3) (Rr : Rx X (Option.some Jvm.ClassFile.FieldType.int) (pI K)) (N : Nm X yX1_raise.name) : ∀ (n : Nat) (h : Hp) (l0 : Option Nat) (l1 : Int32) (l2 : Int32) (l3 : Int32), wp_X1_raise_b11 K n h l0 l1 l2 l3 → Gd X h 11 [some (vR [14] l0), some (vI l1), some (vI l2), some (vI l3)] [] := by
  intro n
  induction n with
  | zero => intro h l0 l1 l2 l3 w; exact w.elim
  | succ n ih =>
    intro h l0 l1 l2 l3 w
    unfold wp_X1_raise_b11 at w
    refine g_iload_n 12 rfl C dX1_raise_11 rfl ?_
    refine g_aload_n 13 rfl C dX1_raise_12 rfl ?_
    obtain ⟨a66, e67, w⟩ := w
    refine g_getR 16 rfl C dX1_raise_13 fl_HashHallModel_12 rfl e67 rfl ?_
    refine g_iload_n 17 rfl C dX1_raise_16 rfl ?_
    obtain ⟨a68, e69, w⟩ := w
    obtain ⟨j70, e71, e72, w⟩ := w
    refine g_aaload 52 18 rfl C dX1_raise_17 (by decide) e69 e71 e72 ?_
    obtain ⟨a73, e74, w⟩ := w
    refine g_getI 21 rfl C dX1_raise_18 fl_HashHallModel_50 rfl e74 rfl ?_
    refine g_icmp_ge 24 55 rfl C dX1_raise_21 rfl (fun u75 => ?_) (fun u75 => ?_)
    · have w := w.1 u75
      refine g_aload_n 56 rfl C dX1_raise_55 rfl ?_
      refine g_getR 59 rfl C dX1_raise_56 fl_HashHallModel_12 rfl e67 rfl ?_
      refine g_iload_n 60 rfl C dX1_raise_59 rfl ?_
      obtain ⟨j76, e77, e78, w⟩ := w
      refine g_aaload 52 61 rfl C dX1_raise_60 (by decide) e69 e77 e78 ?_
      obtain ⟨a79, e80, w⟩ := w
      refine g_getI 64 rfl C dX1_raise_61 fl_HashHallModel_50 rfl e80 rfl ?_
      exact g_ireturn C Rr dX1_raise_64 ⟨_, rfl, w⟩
    · have w := w.2 u75
      refine g_aload_n 25 rfl C dX1_raise_24 rfl ?_
      refine g_getR 28 rfl C dX1_raise_25 fl_HashHallModel_12 rfl e67 rfl ?_
      refine g_iload_n 29 rfl C dX1_raise_28 rfl ?_
      obtain ⟨j81, e82, e83, w⟩ := w
      refine g_aaload 52 30 rfl C dX1_raise_29 (by decide) e69 e82 e83 ?_
      obtain ⟨a84, e85, w⟩ := w
      refine g_getR 33 rfl C dX1_raise_30 fl_HashHallModel_36 rfl e85 rfl ?_
      refine g_aload_n 34 rfl C dX1_raise_33 rfl ?_
      refine g_getR 37 rfl C dX1_raise_34 fl_HashHallModel_12 rfl e67 rfl ?_
      refine g_iload_n 38 rfl C dX1_raise_37 rfl ?_
      obtain ⟨j86, e87, e88, w⟩ := w
      refine g_aaload 52 39 rfl C dX1_raise_38 (by decide) e69 e87 e88 ?_
      obtain ⟨a89, e90, w⟩ := w
      refine g_getR 42 rfl C dX1_raise_39 fl_HashHallModel_54 rfl e90 rfl ?_
      refine g_iload_n 43 rfl C dX1_raise_42 rfl ?_
      obtain ⟨a91, e92, w⟩ := w
      obtain ⟨j93, e94, e95, w⟩ := w
      refine g_iaload 44 rfl C dX1_raise_43 e92 e94 e95 ?_
      refine g_dup2 45 rfl C dX1_raise_44 rfl rfl ?_
      obtain ⟨a96, e97, w⟩ := w
      obtain ⟨j98, e99, e100, w⟩ := w
      refine g_iaload 46 rfl C dX1_raise_45 e97 e99 e100 ?_
      refine g_iload_n 47 rfl C dX1_raise_46 rfl ?_
      refine g_iadd 48 rfl C dX1_raise_47 ?_
      obtain ⟨j101, e102, e103, w⟩ := w
      refine g_iastore 49 rfl C dX1_raise_48 e97 e102 e103 ?_
      have w := w _ rfl
      refine g_iinc 52 rfl C dX1_raise_49 rfl _ rfl (by decide) (rfl : _ = [some (vR [14] _), some (vI _), some (vI _), some (vI _)]) ?_
      refine g_goto 11 C dX1_raise_52 rfl ?_
      refine g_sub [some none, some none, some none, some none] [] rfl rfl ?_
      exact ih _ _ _ _ _ w
def wp_X1_raise (h : Hp) (x0 : Option Nat) (x1 : Int32) (x2 : Int32) (K : Int32 → Hp → Prop) : Prop :=
  (wp_X1_isMap h x1 (fun r61 h62 => Ex h h62 → ((¬ r61 = 0 → (∃ n, wp_X1_raise_b11 K n h62 x0 x1 x2 0)) ∧ (r61 = 0 → (K (-1) h62)))))
set_option maxHeartbeats 4000000 in
theorem wk_X1_raise {X : Fx} {K : Int32 → Hp → Prop} (C : Cx X cX1_raise yX1_raise.cls 4 3) (Rr : Rx X (Option.some Jvm.ClassFile.FieldType.int) (pI K)) (N : Nm X yX1_raise.name) (h : Hp) (x0 : Option Nat) (x1 : Int32) (x2 : Int32) (w : wp_X1_raise h x0 x1 x2 K) : Gd X h 0 [some (vR [14] x0), some (vI x1), some (vI x2), none] [] := by
  unfold wp_X1_raise at w
  refine g_iload_n 1 rfl C dX1_raise_0 rfl ?_
  refine g_callS (As := [vI _]) (st := []) 4 rfl C dX1_raise_1 q1157 q1158 q16 q1159 okn_52e77d (by decide) (by decide) (Nat.le_of_ble_eq_true rfl) rfl (ct_X1_isMap C.glob w) (fun r0 h62 p63 x64 _ => ?_)
  obtain ⟨r61, rfl, w⟩ := p63
  have w := w x64
  change Gd _ _ _ _ (vI r61 :: [])
  refine g_if_ne 7 9 rfl C dX1_raise_4 rfl (fun u65 => ?_) (fun u65 => ?_)
  · have w := w.1 u65
    refine g_iconst 10 rfl C dX1_raise_9 0 rfl ?_
    refine g_istore_n 11 rfl C dX1_raise_10 (by decide) (rfl : _ = [some (vR [14] _), some (vI _), some (vI _), some (vI _)]) ?_
    refine g_sub [some none, some none, some none, some none] [] rfl rfl ?_
    obtain ⟨n9, w⟩ := w
    exact wk_X1_raise_b11 C Rr N n9 _ _ _ _ _ w
  · have w := w.2 u65
    refine g_iconst 8 rfl C dX1_raise_7 (-1) rfl ?_
    exact g_ireturn C Rr dX1_raise_8 ⟨_, rfl, w⟩
theorem ct_X1_raise {E : Gx} (GE : Glob E) {h : Hp} {x0 : Option Nat} {x1 : Int32} {x2 : Int32} {K : Int32 → Hp → Prop} (w : wp_X1_raise h x0 x1 x2 K) : Ct E yX1_raise cX1_raise 4 (Option.some Jvm.ClassFile.FieldType.int) 3 [vR [14] x0, vI x1, vI x2] h (pI K) :=
  Ct.of GE (by decide +kernel) (by simp [lvA, t2]) rfl (fun X hX C Rr N => wk_X1_raise C Rr N h x0 x1 x2 w)
def wp_X1_same_b35 (K : Int32 → Hp → Prop) (h : Hp)  : Prop :=
  (K 0 h)
set_option maxHeartbeats 4000000 in
theorem wk_X1_same_b35 {X : Fx} {K : Int32 → Hp → Prop} (C : Cx X cX1_same yX1_same.cls 6 3) (Rr : Rx X (Option.some Jvm.ClassFile.FieldType.boolean) (pI K)) (N : Nm X yX1_same.name) (h : Hp)  (w : wp_X1_same_b35 K h ) : Gd X h 35 [none, none, none, none, none, none] [] := by
  unfold wp_X1_same_b35 at w
  refine g_iconst 36 rfl C dX1_same_35 0 rfl ?_
  exact g_zreturn C Rr dX1_same_36 (Or.inl rfl) ⟨_, rfl, w⟩
def wp_X1_same_b132 (K : Int32 → Hp → Prop) (h : Hp)  : Prop :=
  (K 0 h)
set_option maxHeartbeats 4000000 in
theorem wk_X1_same_b132 {X : Fx} {K : Int32 → Hp → Prop} (C : Cx X cX1_same yX1_same.cls 6 3) (Rr : Rx X (Option.some Jvm.ClassFile.FieldType.boolean) (pI K)) (N : Nm X yX1_same.name) (h : Hp)  (w : wp_X1_same_b132 K h ) : Gd X h 132 [none, none, none, none, none, none] [] := by
  unfold wp_X1_same_b132 at w
  refine g_iconst 133 rfl C dX1_same_132 0 rfl ?_
  exact g_zreturn C Rr dX1_same_133 (Or.inl rfl) ⟨_, rfl, w⟩
def wp_X1_same_b39 (K : Int32 → Hp → Prop) : Nat → Hp → Option Nat → Int32 → Int32 → Int32 → Prop
  | 0 => fun _ _ _ _ _ => False
  | m9 + 1 => fun h l0 l1 l2 l3 =>
    (∃ a155, l0 = some a155 ∧ (∃ a157, (rf h 41 a155) = some a157 ∧ (∃ j159, l1 = nI j159 ∧ j159 < ln h a157 ∧ (∃ a162, (rf h (100 + j159) a157) = some a162 ∧ (((it h 47 a162) ≤ l3 → (K 1 h)) ∧ (¬ (it h 47 a162) ≤ l3 → (∃ j165, l1 = nI j165 ∧ j165 < ln h a157 ∧ (∃ a168, (rf h (100 + j165) a157) = some a168 ∧ (∃ a170, (rf h 42 a168) = some a170 ∧ (∃ j172, l3 = nI j172 ∧ j172 < ln h a170 ∧ (∃ j175, l2 = nI j175 ∧ j175 < ln h a157 ∧ (∃ a178, (rf h (100 + j175) a157) = some a178 ∧ (∃ a180, (rf h 42 a178) = some a180 ∧ (∃ j182, l3 = nI j182 ∧ j182 < ln h a180 ∧ (∃ j185, l1 = nI j185 ∧ j185 < ln h a157 ∧ (∃ a188, (rf h (100 + j185) a157) = some a188 ∧ (∃ a190, (rf h 43 a188) = some a190 ∧ (∃ j192, (it h (100 + j172) a170) = nI j192 ∧ j192 < ln h a190 ∧ (∃ j195, l2 = nI j195 ∧ j195 < ln h a157 ∧ (∃ a198, (rf h (100 + j195) a157) = some a198 ∧ (∃ a200, (rf h 43 a198) = some a200 ∧ (∃ j202, (it h (100 + j182) a180) = nI j202 ∧ j202 < ln h a200 ∧ ((¬ (it h (100 + j192) a190) = (it h (100 + j202) a200) → (wp_X1_same_b132 K h)) ∧ ((it h (100 + j192) a190) = (it h (100 + j202) a200) → (∃ j206, l1 = nI j206 ∧ j206 < ln h a157 ∧ (∃ a209, (rf h (100 + j206) a157) = some a209 ∧ (∃ a211, (rf h 44 a209) = some a211 ∧ (∃ j213, (it h (100 + j172) a170) = nI j213 ∧ j213 < ln h a211 ∧ (∃ j216, l2 = nI j216 ∧ j216 < ln h a157 ∧ (∃ a219, (rf h (100 + j216) a157) = some a219 ∧ (∃ a221, (rf h 44 a219) = some a221 ∧ (∃ j223, (it h (100 + j182) a180) = nI j223 ∧ j223 < ln h a221 ∧ (((it h (100 + j213) a211) = (it h (100 + j223) a221) → (wp_X1_same_b39 K m9 h l0 l1 l2 (l3 + 1))) ∧ (¬ (it h (100 + j213) a211) = (it h (100 + j223) a221) → (wp_X1_same_b132 K h)))))))))))))))))))))))))))))))))))
set_option maxHeartbeats 4000000 in
theorem wk_X1_same_b39 {X : Fx} {K : Int32 → Hp → Prop} (C : Cx X cX1_same yX1_same.cls 6 3) (Rr : Rx X (Option.some Jvm.ClassFile.FieldType.boolean) (pI K)) (N : Nm X yX1_same.name) : ∀ (n : Nat) (h : Hp) (l0 : Option Nat) (l1 : Int32) (l2 : Int32) (l3 : Int32), wp_X1_same_b39 K n h l0 l1 l2 l3 → Gd X h 39 [some (vR [14] l0), some (vI l1), some (vI l2), some (vI l3), none, none] [] := by
  intro n
  induction n with
  | zero => intro h l0 l1 l2 l3 w; exact w.elim
  | succ n ih =>
    intro h l0 l1 l2 l3 w
    unfold wp_X1_same_b39 at w
    refine g_iload_n 40 rfl C dX1_same_39 rfl ?_
    refine g_aload_n 41 rfl C dX1_same_40 rfl ?_
    obtain ⟨a155, e156, w⟩ := w
    refine g_getR 44 rfl C dX1_same_41 fl_HashHallModel_12 rfl e156 rfl ?_
    refine g_iload_n 45 rfl C dX1_same_44 rfl ?_
    obtain ⟨a157, e158, w⟩ := w
    obtain ⟨j159, e160, e161, w⟩ := w
    refine g_aaload 52 46 rfl C dX1_same_45 (by decide) e158 e160 e161 ?_
    obtain ⟨a162, e163, w⟩ := w
    refine g_getI 49 rfl C dX1_same_46 fl_HashHallModel_50 rfl e163 rfl ?_
    refine g_icmp_ge 52 140 rfl C dX1_same_49 rfl (fun u164 => ?_) (fun u164 => ?_)
    · have w := w.1 u164
      refine g_iconst 141 rfl C dX1_same_140 1 rfl ?_
      exact g_zreturn C Rr dX1_same_141 (Or.inr rfl) ⟨_, rfl, w⟩
    · have w := w.2 u164
      refine g_aload_n 53 rfl C dX1_same_52 rfl ?_
      refine g_getR 56 rfl C dX1_same_53 fl_HashHallModel_12 rfl e156 rfl ?_
      refine g_iload_n 57 rfl C dX1_same_56 rfl ?_
      obtain ⟨j165, e166, e167, w⟩ := w
      refine g_aaload 52 58 rfl C dX1_same_57 (by decide) e158 e166 e167 ?_
      obtain ⟨a168, e169, w⟩ := w
      refine g_getR 61 rfl C dX1_same_58 fl_HashHallModel_54 rfl e169 rfl ?_
      refine g_iload_n 62 rfl C dX1_same_61 rfl ?_
      obtain ⟨a170, e171, w⟩ := w
      obtain ⟨j172, e173, e174, w⟩ := w
      refine g_iaload 63 rfl C dX1_same_62 e171 e173 e174 ?_
      refine g_istore 65 rfl C dX1_same_63 (by decide) (rfl : _ = [some (vR [14] _), some (vI _), some (vI _), some (vI _), some (vI _), none]) ?_
      refine g_aload_n 66 rfl C dX1_same_65 rfl ?_
      refine g_getR 69 rfl C dX1_same_66 fl_HashHallModel_12 rfl e156 rfl ?_
      refine g_iload_n 70 rfl C dX1_same_69 rfl ?_
      obtain ⟨j175, e176, e177, w⟩ := w
      refine g_aaload 52 71 rfl C dX1_same_70 (by decide) e158 e176 e177 ?_
      obtain ⟨a178, e179, w⟩ := w
      refine g_getR 74 rfl C dX1_same_71 fl_HashHallModel_54 rfl e179 rfl ?_
      refine g_iload_n 75 rfl C dX1_same_74 rfl ?_
      obtain ⟨a180, e181, w⟩ := w
      obtain ⟨j182, e183, e184, w⟩ := w
      refine g_iaload 76 rfl C dX1_same_75 e181 e183 e184 ?_
      refine g_istore 78 rfl C dX1_same_76 (by decide) (rfl : _ = [some (vR [14] _), some (vI _), some (vI _), some (vI _), some (vI _), some (vI _)]) ?_
      refine g_aload_n 79 rfl C dX1_same_78 rfl ?_
      refine g_getR 82 rfl C dX1_same_79 fl_HashHallModel_12 rfl e156 rfl ?_
      refine g_iload_n 83 rfl C dX1_same_82 rfl ?_
      obtain ⟨j185, e186, e187, w⟩ := w
      refine g_aaload 52 84 rfl C dX1_same_83 (by decide) e158 e186 e187 ?_
      obtain ⟨a188, e189, w⟩ := w
      refine g_getR 87 rfl C dX1_same_84 fl_HashHallModel_60 rfl e189 rfl ?_
      refine g_iload 89 rfl C dX1_same_87 rfl ?_
      obtain ⟨a190, e191, w⟩ := w
      obtain ⟨j192, e193, e194, w⟩ := w
      refine g_iaload 90 rfl C dX1_same_89 e191 e193 e194 ?_
      refine g_aload_n 91 rfl C dX1_same_90 rfl ?_
      refine g_getR 94 rfl C dX1_same_91 fl_HashHallModel_12 rfl e156 rfl ?_
      refine g_iload_n 95 rfl C dX1_same_94 rfl ?_
      obtain ⟨j195, e196, e197, w⟩ := w
      refine g_aaload 52 96 rfl C dX1_same_95 (by decide) e158 e196 e197 ?_
      obtain ⟨a198, e199, w⟩ := w
      refine g_getR 99 rfl C dX1_same_96 fl_HashHallModel_60 rfl e199 rfl ?_
      refine g_iload 101 rfl C dX1_same_99 rfl ?_
      obtain ⟨a200, e201, w⟩ := w
      obtain ⟨j202, e203, e204, w⟩ := w
      refine g_iaload 102 rfl C dX1_same_101 e201 e203 e204 ?_
      refine g_icmp_ne 105 132 rfl C dX1_same_102 rfl (fun u205 => ?_) (fun u205 => ?_)
      · have w := w.1 u205
        refine g_sub [none, none, none, none, none, none] [] rfl rfl ?_
        exact wk_X1_same_b132 C Rr N _ w
      · have w := w.2 u205
        refine g_aload_n 106 rfl C dX1_same_105 rfl ?_
        refine g_getR 109 rfl C dX1_same_106 fl_HashHallModel_12 rfl e156 rfl ?_
        refine g_iload_n 110 rfl C dX1_same_109 rfl ?_
        obtain ⟨j206, e207, e208, w⟩ := w
        refine g_aaload 52 111 rfl C dX1_same_110 (by decide) e158 e207 e208 ?_
        obtain ⟨a209, e210, w⟩ := w
        refine g_getR 114 rfl C dX1_same_111 fl_HashHallModel_36 rfl e210 rfl ?_
        refine g_iload 116 rfl C dX1_same_114 rfl ?_
        obtain ⟨a211, e212, w⟩ := w
        obtain ⟨j213, e214, e215, w⟩ := w
        refine g_iaload 117 rfl C dX1_same_116 e212 e214 e215 ?_
        refine g_aload_n 118 rfl C dX1_same_117 rfl ?_
        refine g_getR 121 rfl C dX1_same_118 fl_HashHallModel_12 rfl e156 rfl ?_
        refine g_iload_n 122 rfl C dX1_same_121 rfl ?_
        obtain ⟨j216, e217, e218, w⟩ := w
        refine g_aaload 52 123 rfl C dX1_same_122 (by decide) e158 e217 e218 ?_
        obtain ⟨a219, e220, w⟩ := w
        refine g_getR 126 rfl C dX1_same_123 fl_HashHallModel_36 rfl e220 rfl ?_
        refine g_iload 128 rfl C dX1_same_126 rfl ?_
        obtain ⟨a221, e222, w⟩ := w
        obtain ⟨j223, e224, e225, w⟩ := w
        refine g_iaload 129 rfl C dX1_same_128 e222 e224 e225 ?_
        refine g_icmp_eq 132 134 rfl C dX1_same_129 rfl (fun u226 => ?_) (fun u226 => ?_)
        · have w := w.1 u226
          refine g_iinc 137 rfl C dX1_same_134 rfl _ rfl (by decide) (rfl : _ = [some (vR [14] _), some (vI _), some (vI _), some (vI _), some (vI _), some (vI _)]) ?_
          refine g_goto 39 C dX1_same_137 rfl ?_
          refine g_sub [some none, some none, some none, some none, none, none] [] rfl rfl ?_
          exact ih _ _ _ _ _ w
        · have w := w.2 u226
          refine g_sub [none, none, none, none, none, none] [] rfl rfl ?_
          exact wk_X1_same_b132 C Rr N _ w
def wp_X1_same (h : Hp) (x0 : Option Nat) (x1 : Int32) (x2 : Int32) (K : Int32 → Hp → Prop) : Prop :=
  (wp_X1_isMap h x1 (fun r129 h130 => Ex h h130 → ((r129 = 0 → (wp_X1_same_b35 K h130)) ∧ (¬ r129 = 0 → (wp_X1_isMap h130 x2 (fun r135 h136 => Ex h130 h136 → ((r135 = 0 → (wp_X1_same_b35 K h136)) ∧ (¬ r135 = 0 → (∃ a140, x0 = some a140 ∧ (∃ a142, (rf h136 41 a140) = some a142 ∧ (∃ j144, x1 = nI j144 ∧ j144 < ln h136 a142 ∧ (∃ a147, (rf h136 (100 + j144) a142) = some a147 ∧ (∃ j149, x2 = nI j149 ∧ j149 < ln h136 a142 ∧ (∃ a152, (rf h136 (100 + j149) a142) = some a152 ∧ (((it h136 47 a147) = (it h136 47 a152) → (∃ n, wp_X1_same_b39 K n h136 x0 x1 x2 0)) ∧ (¬ (it h136 47 a147) = (it h136 47 a152) → (wp_X1_same_b35 K h136)))))))))))))))))
set_option maxHeartbeats 4000000 in
theorem wk_X1_same {X : Fx} {K : Int32 → Hp → Prop} (C : Cx X cX1_same yX1_same.cls 6 3) (Rr : Rx X (Option.some Jvm.ClassFile.FieldType.boolean) (pI K)) (N : Nm X yX1_same.name) (h : Hp) (x0 : Option Nat) (x1 : Int32) (x2 : Int32) (w : wp_X1_same h x0 x1 x2 K) : Gd X h 0 [some (vR [14] x0), some (vI x1), some (vI x2), none, none, none] [] := by
  unfold wp_X1_same at w
  refine g_iload_n 1 rfl C dX1_same_0 rfl ?_
  refine g_callS (As := [vI _]) (st := []) 4 rfl C dX1_same_1 q1157 q1158 q16 q1159 okn_52e77d (by decide) (by decide) (Nat.le_of_ble_eq_true rfl) rfl (ct_X1_isMap C.glob w) (fun r0 h130 p131 x132 _ => ?_)
  obtain ⟨r129, rfl, w⟩ := p131
  have w := w x132
  change Gd _ _ _ _ (vI r129 :: [])
  refine g_if_eq 7 35 rfl C dX1_same_4 rfl (fun u133 => ?_) (fun u133 => ?_)
  · have w := w.1 u133
    refine g_sub [none, none, none, none, none, none] [] rfl rfl ?_
    exact wk_X1_same_b35 C Rr N _ w
  · have w := w.2 u133
    refine g_iload_n 8 rfl C dX1_same_7 rfl ?_
    refine g_callS (As := [vI _]) (st := []) 11 rfl C dX1_same_8 q1157 q1158 q16 q1159 okn_52e77d (by decide) (by decide) (Nat.le_of_ble_eq_true rfl) rfl (ct_X1_isMap C.glob w) (fun r0 h136 p137 x138 _ => ?_)
    obtain ⟨r135, rfl, w⟩ := p137
    have w := w x138
    change Gd _ _ _ _ (vI r135 :: [])
    refine g_if_eq 14 35 rfl C dX1_same_11 rfl (fun u139 => ?_) (fun u139 => ?_)
    · have w := w.1 u139
      refine g_sub [none, none, none, none, none, none] [] rfl rfl ?_
      exact wk_X1_same_b35 C Rr N _ w
    · have w := w.2 u139
      refine g_aload_n 15 rfl C dX1_same_14 rfl ?_
      obtain ⟨a140, e141, w⟩ := w
      refine g_getR 18 rfl C dX1_same_15 fl_HashHallModel_12 rfl e141 rfl ?_
      refine g_iload_n 19 rfl C dX1_same_18 rfl ?_
      obtain ⟨a142, e143, w⟩ := w
      obtain ⟨j144, e145, e146, w⟩ := w
      refine g_aaload 52 20 rfl C dX1_same_19 (by decide) e143 e145 e146 ?_
      obtain ⟨a147, e148, w⟩ := w
      refine g_getI 23 rfl C dX1_same_20 fl_HashHallModel_50 rfl e148 rfl ?_
      refine g_aload_n 24 rfl C dX1_same_23 rfl ?_
      refine g_getR 27 rfl C dX1_same_24 fl_HashHallModel_12 rfl e141 rfl ?_
      refine g_iload_n 28 rfl C dX1_same_27 rfl ?_
      obtain ⟨j149, e150, e151, w⟩ := w
      refine g_aaload 52 29 rfl C dX1_same_28 (by decide) e143 e150 e151 ?_
      obtain ⟨a152, e153, w⟩ := w
      refine g_getI 32 rfl C dX1_same_29 fl_HashHallModel_50 rfl e153 rfl ?_
      refine g_icmp_eq 35 37 rfl C dX1_same_32 rfl (fun u154 => ?_) (fun u154 => ?_)
      · have w := w.1 u154
        refine g_iconst 38 rfl C dX1_same_37 0 rfl ?_
        refine g_istore_n 39 rfl C dX1_same_38 (by decide) (rfl : _ = [some (vR [14] _), some (vI _), some (vI _), some (vI _), none, none]) ?_
        refine g_sub [some none, some none, some none, some none, none, none] [] rfl rfl ?_
        obtain ⟨n9, w⟩ := w
        exact wk_X1_same_b39 C Rr N n9 _ _ _ _ _ w
      · have w := w.2 u154
        refine g_sub [none, none, none, none, none, none] [] rfl rfl ?_
        exact wk_X1_same_b35 C Rr N _ w
theorem ct_X1_same {E : Gx} (GE : Glob E) {h : Hp} {x0 : Option Nat} {x1 : Int32} {x2 : Int32} {K : Int32 → Hp → Prop} (w : wp_X1_same h x0 x1 x2 K) : Ct E yX1_same cX1_same 6 (Option.some Jvm.ClassFile.FieldType.boolean) 3 [vR [14] x0, vI x1, vI x2] h (pI K) :=
  Ct.of GE (by decide +kernel) (by simp [lvA, t2]) rfl (fun X hX C Rr N => wk_X1_same C Rr N h x0 x1 x2 w)
def wp_X1_fill_b36 (K : Int32 → Hp → Prop) (h : Hp)  : Prop :=
  (K (-1) h)
set_option maxHeartbeats 4000000 in
theorem wk_X1_fill_b36 {X : Fx} {K : Int32 → Hp → Prop} (C : Cx X cX1_fill yX1_fill.cls 6 7) (Rr : Rx X (Option.some Jvm.ClassFile.FieldType.int) (pI K)) (N : Nm X yX1_fill.name) (h : Hp)  (w : wp_X1_fill_b36 K h ) : Gd X h 36 [none, none, none, none, none, none] [] := by
  unfold wp_X1_fill_b36 at w
  refine g_iconst 37 rfl C dX1_fill_36 (-1) rfl ?_
  exact g_ireturn C Rr dX1_fill_37 ⟨_, rfl, w⟩
def wp_X1_fill_b41 (K : Int32 → Hp → Prop) : Nat → Hp → Option Nat → Int32 → Int32 → Int32 → Int32 → Int32 → Prop
  | 0 => fun _ _ _ _ _ _ _ => False
  | m9 + 1 => fun h l0 l1 l2 l3 l4 l5 =>
    ((l4 ≤ l5 → (∃ a55, l0 = some a55 ∧ (∃ a57, (rf h 41 a55) = some a57 ∧ (∃ j59, l1 = nI j59 ∧ j59 < ln h a57 ∧ (∃ a62, (rf h (100 + j59) a57) = some a62 ∧ (K (it h 47 a62) h)))))) ∧ (¬ l4 ≤ l5 → (∃ a64, l0 = some a64 ∧ (wp_X1_put h l0 l1 (l2 + (l5 * l3)) l5 (fun r67 h68 => Ex h h68 → (wp_X1_fill_b41 K m9 h68 l0 l1 l2 l3 l4 (l5 + 1)))))))
set_option maxHeartbeats 4000000 in
theorem wk_X1_fill_b41 {X : Fx} {K : Int32 → Hp → Prop} (C : Cx X cX1_fill yX1_fill.cls 6 7) (Rr : Rx X (Option.some Jvm.ClassFile.FieldType.int) (pI K)) (N : Nm X yX1_fill.name) : ∀ (n : Nat) (h : Hp) (l0 : Option Nat) (l1 : Int32) (l2 : Int32) (l3 : Int32) (l4 : Int32) (l5 : Int32), wp_X1_fill_b41 K n h l0 l1 l2 l3 l4 l5 → Gd X h 41 [some (vR [14] l0), some (vI l1), some (vI l2), some (vI l3), some (vI l4), some (vI l5)] [] := by
  intro n
  induction n with
  | zero => intro h l0 l1 l2 l3 l4 l5 w; exact w.elim
  | succ n ih =>
    intro h l0 l1 l2 l3 l4 l5 w
    unfold wp_X1_fill_b41 at w
    refine g_iload 43 rfl C dX1_fill_41 rfl ?_
    refine g_iload 45 rfl C dX1_fill_43 rfl ?_
    refine g_icmp_ge 48 68 rfl C dX1_fill_45 rfl (fun u54 => ?_) (fun u54 => ?_)
    · have w := w.1 u54
      refine g_aload_n 69 rfl C dX1_fill_68 rfl ?_
      obtain ⟨a55, e56, w⟩ := w
      refine g_getR 72 rfl C dX1_fill_69 fl_HashHallModel_12 rfl e56 rfl ?_
      refine g_iload_n 73 rfl C dX1_fill_72 rfl ?_
      obtain ⟨a57, e58, w⟩ := w
      obtain ⟨j59, e60, e61, w⟩ := w
      refine g_aaload 52 74 rfl C dX1_fill_73 (by decide) e58 e60 e61 ?_
      obtain ⟨a62, e63, w⟩ := w
      refine g_getI 77 rfl C dX1_fill_74 fl_HashHallModel_50 rfl e63 rfl ?_
      exact g_ireturn C Rr dX1_fill_77 ⟨_, rfl, w⟩
    · have w := w.2 u54
      refine g_aload_n 49 rfl C dX1_fill_48 rfl ?_
      refine g_iload_n 50 rfl C dX1_fill_49 rfl ?_
      refine g_iload_n 51 rfl C dX1_fill_50 rfl ?_
      refine g_iload 53 rfl C dX1_fill_51 rfl ?_
      refine g_iload_n 54 rfl C dX1_fill_53 rfl ?_
      refine g_imul 55 rfl C dX1_fill_54 ?_
      refine g_iadd 56 rfl C dX1_fill_55 ?_
      refine g_iload 58 rfl C dX1_fill_56 rfl ?_
      obtain ⟨a64, e65, w⟩ := w
      refine g_callV (As := [vI _, vI _, vI _]) (T := [14]) (st := []) "HashHallModel" 61 rfl C dX1_fill_58 q1256 q1154 q1155 q16 q1156 rfl okn_f555d9 (by decide) (by decide) (Nat.le_of_ble_eq_true rfl) e65 (fun q => tC rfl q) rfl (ct_X1_put C.glob w) (fun r0 h68 p69 x70 _ => ?_)
      obtain ⟨r67, rfl, w⟩ := p69
      have w := w x70
      change Gd _ _ _ _ (vL r67 :: [])
      refine g_pop2_2 62 rfl C dX1_fill_61 rfl ?_
      refine g_iinc 65 rfl C dX1_fill_62 rfl _ rfl (by decide) (rfl : _ = [some (vR [14] _), some (vI _), some (vI _), some (vI _), some (vI _), some (vI _)]) ?_
      refine g_goto 41 C dX1_fill_65 rfl ?_
      refine g_sub [some none, some none, some none, some none, some none, some none] [] rfl rfl ?_
      exact ih _ _ _ _ _ _ _ w
def wp_X1_fill (h : Hp) (x0 : Option Nat) (x1 : Int32) (x2 : Int32) (x3 : Int32) (x4 : Int32) (K : Int32 → Hp → Prop) : Prop :=
  (wp_X1_isMap h x1 (fun r37 h38 => Ex h h38 → ((r37 = 0 → (wp_X1_fill_b36 K h38)) ∧ (¬ r37 = 0 → ((x4 < 1 → (wp_X1_fill_b36 K h38)) ∧ (¬ x4 < 1 → ((400 < x4 → (wp_X1_fill_b36 K h38)) ∧ (¬ 400 < x4 → (∃ a44, x0 = some a44 ∧ (∃ a46, (rf h38 41 a44) = some a46 ∧ (∃ j48, x1 = nI j48 ∧ j48 < ln h38 a46 ∧ (∃ a51, (rf h38 (100 + j48) a46) = some a51 ∧ (((it h38 47 a51) ≤ 1000 → (∃ n, wp_X1_fill_b41 K n h38 x0 x1 x2 x3 x4 0)) ∧ (¬ (it h38 47 a51) ≤ 1000 → (wp_X1_fill_b36 K h38)))))))))))))))
set_option maxHeartbeats 4000000 in
theorem wk_X1_fill {X : Fx} {K : Int32 → Hp → Prop} (C : Cx X cX1_fill yX1_fill.cls 6 7) (Rr : Rx X (Option.some Jvm.ClassFile.FieldType.int) (pI K)) (N : Nm X yX1_fill.name) (h : Hp) (x0 : Option Nat) (x1 : Int32) (x2 : Int32) (x3 : Int32) (x4 : Int32) (w : wp_X1_fill h x0 x1 x2 x3 x4 K) : Gd X h 0 [some (vR [14] x0), some (vI x1), some (vI x2), some (vI x3), some (vI x4), none] [] := by
  unfold wp_X1_fill at w
  refine g_iload_n 1 rfl C dX1_fill_0 rfl ?_
  refine g_callS (As := [vI _]) (st := []) 4 rfl C dX1_fill_1 q1157 q1158 q16 q1159 okn_52e77d (by decide) (by decide) (Nat.le_of_ble_eq_true rfl) rfl (ct_X1_isMap C.glob w) (fun r0 h38 p39 x40 _ => ?_)
  obtain ⟨r37, rfl, w⟩ := p39
  have w := w x40
  change Gd _ _ _ _ (vI r37 :: [])
  refine g_if_eq 7 36 rfl C dX1_fill_4 rfl (fun u41 => ?_) (fun u41 => ?_)
  · have w := w.1 u41
    refine g_sub [none, none, none, none, none, none] [] rfl rfl ?_
    exact wk_X1_fill_b36 C Rr N _ w
  · have w := w.2 u41
    refine g_iload 9 rfl C dX1_fill_7 rfl ?_
    refine g_iconst 10 rfl C dX1_fill_9 1 rfl ?_
    refine g_icmp_lt 13 36 rfl C dX1_fill_10 rfl (fun u42 => ?_) (fun u42 => ?_)
    · have w := w.1 u42
      refine g_sub [none, none, none, none, none, none] [] rfl rfl ?_
      exact wk_X1_fill_b36 C Rr N _ w
    · have w := w.2 u42
      refine g_iload 15 rfl C dX1_fill_13 rfl ?_
      refine g_sipush 18 rfl C dX1_fill_15 400 (by decide) ?_
      refine g_icmp_gt 21 36 rfl C dX1_fill_18 rfl (fun u43 => ?_) (fun u43 => ?_)
      · have w := w.1 u43
        refine g_sub [none, none, none, none, none, none] [] rfl rfl ?_
        exact wk_X1_fill_b36 C Rr N _ w
      · have w := w.2 u43
        refine g_aload_n 22 rfl C dX1_fill_21 rfl ?_
        obtain ⟨a44, e45, w⟩ := w
        refine g_getR 25 rfl C dX1_fill_22 fl_HashHallModel_12 rfl e45 rfl ?_
        refine g_iload_n 26 rfl C dX1_fill_25 rfl ?_
        obtain ⟨a46, e47, w⟩ := w
        obtain ⟨j48, e49, e50, w⟩ := w
        refine g_aaload 52 27 rfl C dX1_fill_26 (by decide) e47 e49 e50 ?_
        obtain ⟨a51, e52, w⟩ := w
        refine g_getI 30 rfl C dX1_fill_27 fl_HashHallModel_50 rfl e52 rfl ?_
        refine g_sipush 33 rfl C dX1_fill_30 1000 (by decide) ?_
        refine g_icmp_le 36 38 rfl C dX1_fill_33 rfl (fun u53 => ?_) (fun u53 => ?_)
        · have w := w.1 u53
          refine g_iconst 39 rfl C dX1_fill_38 0 rfl ?_
          refine g_istore 41 rfl C dX1_fill_39 (by decide) (rfl : _ = [some (vR [14] _), some (vI _), some (vI _), some (vI _), some (vI _), some (vI _)]) ?_
          refine g_sub [some none, some none, some none, some none, some none, some none] [] rfl rfl ?_
          obtain ⟨n9, w⟩ := w
          exact wk_X1_fill_b41 C Rr N n9 _ _ _ _ _ _ _ w
        · have w := w.2 u53
          refine g_sub [none, none, none, none, none, none] [] rfl rfl ?_
          exact wk_X1_fill_b36 C Rr N _ w
theorem ct_X1_fill {E : Gx} (GE : Glob E) {h : Hp} {x0 : Option Nat} {x1 : Int32} {x2 : Int32} {x3 : Int32} {x4 : Int32} {K : Int32 → Hp → Prop} (w : wp_X1_fill h x0 x1 x2 x3 x4 K) : Ct E yX1_fill cX1_fill 6 (Option.some Jvm.ClassFile.FieldType.int) 7 [vR [14] x0, vI x1, vI x2, vI x3, vI x4] h (pI K) :=
  Ct.of GE (by decide +kernel) (by simp [lvA, t2]) rfl (fun X hX C Rr N => wk_X1_fill C Rr N h x0 x1 x2 x3 x4 w)
