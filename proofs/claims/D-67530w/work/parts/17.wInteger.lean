/-! WALKS (printed by emit.py): Integer -/
set_option maxRecDepth 100000
def wp_J3_init (h : Hp) (x0 : Option Nat) (K : Hp → Prop) : Prop :=
  (∃ a3, x0 = some a3 ∧ (K h))
set_option maxHeartbeats 4000000 in
theorem wk_J3_init {X : Fx} {K : Hp → Prop} (C : Cx X cJ3_init yJ3_init.cls 1 2) (Rr : Rx X (Option.none : Option Jvm.ClassFile.FieldType) (pV K)) (N : Nm X yJ3_init.name) (h : Hp) (x0 : Option Nat) (w : wp_J3_init h x0 K) : Gd X h 0 [some (vR [4] x0)] [] := by
  unfold wp_J3_init at w
  refine g_aload_n 1 rfl C dJ3_init_0 rfl ?_
  obtain ⟨a3, e4, w⟩ := w
  refine g_objInit 4 rfl C dJ3_init_1 q178 q45 q46 (by decide) (Nat.le_of_ble_eq_true rfl) e4 ?_
  exact g_vreturn C Rr dJ3_init_4 ⟨rfl, w⟩
theorem ct_J3_init {E : Gx} (GE : Glob E) {h : Hp} {x0 : Option Nat} {K : Hp → Prop} (w : wp_J3_init h x0 K) : Ct E yJ3_init cJ3_init 1 (Option.none : Option Jvm.ClassFile.FieldType) 2 [vR [4] x0] h (pV K) :=
  Ct.of GE (by decide +kernel) (by simp [lvA, t2]) rfl (fun X hX C Rr N => wk_J3_init C Rr N h x0 w)
def wp_J5_init (h : Hp) (x0 : Option Nat) (x1 : Int32) (K : Hp → Prop) : Prop :=
  (∃ a11, x0 = some a11 ∧ (wp_J3_init h x0 (fun h15 => Ex h h15 → (∀ h18, h18 = wI h15 23 a11 x1 → (K h18)))))
set_option maxHeartbeats 4000000 in
theorem wk_J5_init {X : Fx} {K : Hp → Prop} (C : Cx X cJ5_init yJ5_init.cls 2 3) (Rr : Rx X (Option.none : Option Jvm.ClassFile.FieldType) (pV K)) (N : Nm X yJ5_init.name) (h : Hp) (x0 : Option Nat) (x1 : Int32) (w : wp_J5_init h x0 x1 K) : Gd X h 0 [some (vR [4] x0), some (vI x1)] [] := by
  unfold wp_J5_init at w
  refine g_aload_n 1 rfl C dJ5_init_0 rfl ?_
  obtain ⟨a11, e12, w⟩ := w
  refine g_callI (As := []) (T := [4]) (st := []) 4 rfl C dJ5_init_1 q175 q176 q13 q177 rfl okn_39c0fb (by decide) (by decide) (Nat.le_of_ble_eq_true rfl) e12 rfl (ct_J3_init C.glob w) (fun r0 h15 p16 x17 _ => ?_)
  obtain ⟨rfl, w⟩ := p16
  have w := w x17
  change Gd _ _ _ _ []
  refine g_aload_n 5 rfl C dJ5_init_4 rfl ?_
  refine g_iload_n 6 rfl C dJ5_init_5 rfl ?_
  refine g_putIF 9 rfl C N dJ5_init_6 fl_Integer_205 ⟨rfl, rfl⟩ rfl e12 rfl ?_
  have w := w _ rfl
  exact g_vreturn C Rr dJ5_init_9 ⟨rfl, w⟩
theorem ct_J5_init {E : Gx} (GE : Glob E) {h : Hp} {x0 : Option Nat} {x1 : Int32} {K : Hp → Prop} (w : wp_J5_init h x0 x1 K) : Ct E yJ5_init cJ5_init 2 (Option.none : Option Jvm.ClassFile.FieldType) 3 [vR [4] x0, vI x1] h (pV K) :=
  Ct.of GE (by decide +kernel) (by simp [lvA, t2]) rfl (fun X hX C Rr N => wk_J5_init C Rr N h x0 x1 w)
