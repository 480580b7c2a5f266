/-! THE HASH ITERATOR: remove, init -/
set_option maxRecDepth 100000
theorem s_J15_remove {h : Hp} {a m n p C Q : Nat} {bn : Nat → List Nat} {O R : List Nat} {K : Hp → Prop} (k : HI h a m n bn R) (M : MI h m n O) (kb0 : MB h m n bn O) (hl : O.length ≤ 1464) (h32 : rf h 32 a = some p) (pO : p ∈ O) (pR : p ∉ R) (B : Bud h n O C Q)
    (fin : ∀ h1 h2 h' bn', Chg (fun _ b => b = a) h h1 → Mst h1 h2 m O (flt p O) → Chg (fun _ b => b = a) h2 h' → MI h' m n (flt p O) → MB h' m n bn' (flt p O) → HI h' a m n bn' R → (flt p O).map (pr h') = (flt p O).map (pr h) → Bud h' n (flt p O) C Q → K h') : wp_J15_remove h (some a) K := by
  obtain ⟨k1, k2, k3, k4, k5⟩ := id k
  have c1 : Chg (fun _ b => b = a) h (wR h 32 a none) := (Chg.refl (fun _ b => b = a) h).wR _ rfl
  have S1 := M.off c1 (by omega)
  obtain ⟨M1, P1, L1⟩ := M.sam S1
  have kb := kb0.sam S1
  obtain ⟨kc, hkc, hk4, hks⟩ := (kb.ok p pO).1
  have B1 : Bud (wR h 32 a none) n O C Q := by
    unfold Bud at B ⊢
    rw [L1]; exact B
  have a35 : rf (wR h 32 a none) 35 a = some m := by rw [rf_wR, if_neg (by omega)]; exact k2
  have aown : ¬ Own (wR h 32 a none) m O a := fun w => by
    have := M1.ownk w
    have ka : kd (wR h 32 a none) a = kd h a := rfl
    omega
  have a0 : kd (wR h 32 a none) a ≠ 0 := by rw [show kd (wR h 32 a none) a = kd h a from rfl]; omega
  have key : keyI (wR h 32 a none) p = it (wR h 32 a none) 23 kc := by unfold keyI; rw [hkc]
  unfold wp_J15_remove
  refine ⟨a, rfl, (fun w => by rw [h32] at w; cases w), fun p' e => ?_⟩
  rw [h32] at e
  cases e
  refine ⟨m, k2, fun _ => ?_, fun w => absurd k3.symm w⟩
  rintro h1 rfl
  refine ⟨m, a35, ?_⟩
  rw [a35, hkc]
  refine s_removeNode (v := 0) M1 kb hl hks (fun _ => B1) (fun w => absurd rfl w) (fun w => absurd rfl w) (fun q hq e _ h2 O2 i L2 hi hqi q1 q2 q3 q4 _ q6 q7 _ => ?_) (fun ne => absurd rfl (ne p pO key).1)
  have qp : q = p := kb.kinj hq pO (e.trans key.symm)
  subst qp
  obtain ⟨e2, e3⟩ := q6 rfl
  subst e2
  subst e3
  have fa : ∀ f, rf h2 f a = rf (wR h 32 a none) f a ∧ it h2 f a = it (wR h 32 a none) f a := fun f => q3.2.1 f a a0 (fun w => aown (Or.inl w)) (fun w => aown (Or.inr (Or.inl w))) (fun w => aown (Or.inr (Or.inr w)))
  have ka2 : kd h2 a = kd h a := (q3.1.1 a a0).1
  unfold wp_J15_remove_b62
  refine ⟨a, rfl, m, by rw [(fa 35).1]; exact a35, ?_⟩
  rintro h3 rfl
  have c3 : Chg (fun _ b => b = a) h2 (wI h2 33 a (it h2 16 m)) := (Chg.refl (fun _ b => b = a) h2).wI _ rfl
  have S3 := q1.off c3 (by omega)
  obtain ⟨M3, P3, L3⟩ := q1.sam S3
  refine fin _ h2 _ (updB bn i (flt q (bn i))) c1 q3 c3 M3 (q2.sam S3) (k.drop hi hqi pR ka2 ?_ ?_ ?_ ?_) ?_ ?_
  · show rf h2 35 a = _
    rw [(fa 35).1, rf_wR, if_neg (by omega)]
  · rw [it_wI, if_pos ⟨rfl, rfl⟩, it_wI, if_neg (by omega)]
  · show rf h2 31 a = _
    rw [(fa 31).1, rf_wR, if_neg (by omega)]
  · rw [it_wI, if_neg (by omega), (fa 34).2]; rfl
  · rw [List.map_congr_left P3, q4]
    exact List.map_congr_left (fun x hx => P1 x (mem_flt.mp hx).1)
  · unfold Bud at q7 ⊢
    rw [L3]; exact q7
theorem s_J15_init {h : Hp} {a m n : Nat} {bn : Nat → List Nat} {O : List Nat} {K : Hp → Prop} (ka : kd h a = 11 ∨ kd h a = 12) (M : MI h m n O) (kb : MB h m n bn O) (hl : O.length ≤ 1464) (fin : ∀ h', Chg (fun _ b => b = a) h h' → HI h' a m n bn (nodes n bn) → K h') : wp_J15_init h (some a) (some m) K := by
  have ma : m ≠ a := fun w => by have := kb.1; rw [w] at this; omega
  unfold wp_J15_init
  refine ⟨a, rfl, ?_⟩
  rintro h1 rfl
  refine ⟨m, rfl, ?_⟩
  rintro h2 rfl h3 rfl h4 rfl h5 rfl
  have c : Chg (fun _ b => b = a) h (wI (wR (wR (wI (wR h 35 a (some m)) 33 a (it (wR h 35 a (some m)) 16 m)) 31 a none) 32 a none) 34 a 0) := ((((Chg.refl (fun _ b => b = a) h).wR _ rfl).wI _ rfl).wR _ rfl).wR _ rfl |>.wI _ rfl
  have g35 : rf (wI (wR (wR (wI (wR h 35 a (some m)) 33 a (it (wR h 35 a (some m)) 16 m)) 31 a none) 32 a none) 34 a 0) 35 a = some m := by
    rw [rf_wI, rf_wR, if_neg (by omega), rf_wR, if_neg (by omega), rf_wI, rf_wR, if_pos ⟨rfl, rfl⟩]
  have g31 : rf (wI (wR (wR (wI (wR h 35 a (some m)) 33 a (it (wR h 35 a (some m)) 16 m)) 31 a none) 32 a none) 34 a 0) 31 a = none := by
    rw [rf_wI, rf_wR, if_neg (by omega), rf_wR, if_pos ⟨rfl, rfl⟩]
  have g33 : it (wI (wR (wR (wI (wR h 35 a (some m)) 33 a (it (wR h 35 a (some m)) 16 m)) 31 a none) 32 a none) 34 a 0) 33 a = it h 16 m := by
    rw [it_wI, if_neg (by omega), it_wR, it_wR, it_wI, if_pos ⟨rfl, rfl⟩]; rfl
  have g34 : it (wI (wR (wR (wI (wR h 35 a (some m)) 33 a (it (wR h 35 a (some m)) 16 m)) 31 a none) 32 a none) 34 a 0) 34 a = 0 := by rw [it_wI, if_pos ⟨rfl, rfl⟩]
  have e13 : rf (wI (wR h 35 a (some m)) 33 a (it (wR h 35 a (some m)) 16 m)) 13 m = rf h 13 m := by rw [rf_wI, rf_wR, if_neg (by omega)]
  rw [e13]
  generalize wI (wR (wR (wI (wR h 35 a (some m)) 33 a (it (wR h 35 a (some m)) 16 m)) 31 a none) 32 a none) 34 a 0 = h5 at c g35 g31 g33 g34
  have S := M.off c (by omega)
  have kb5 := kb.sam S
  have m16 : it h5 16 m = it h 16 m := c.it ma
  have nil : O = [] → K h5 := fun hO => by
    have hn : nodes n bn = [] := by
      have := kb.2.2.1.length_eq
      rw [hO] at this
      exact List.eq_nil_of_length_eq_zero this.symm
    refine fin h5 c ⟨by rw [c.1]; exact ka, g35, by rw [g33, m16], by rw [g31, hn]; rfl, 0, [], g34, Nat.zero_le _, by rw [restN_all]; rfl, fun _ => hn, Or.inl rfl⟩
  unfold wp_J15_init_b78
  refine ⟨fun w => nil ?_, fun t ht => ⟨fun w => nil ?_, fun _ => ?_⟩⟩
  · have hn0 : n = 0 := by
      rcases kb.2.2.2.2.1 with z | ⟨e, t, w1, w2, w3, w4⟩
      · exact z.1
      · rw [w] at w3; cases w3
    have := kb.2.2.1.length_eq
    rw [hn0] at this
    exact List.eq_nil_of_length_eq_zero this
  · have : nI O.length ≤ nI 0 := by rw [← M.2.1, ← c.it ma]; exact w
    rw [nI_leI (by omega) (by omega)] at this
    exact List.eq_nil_of_length_eq_zero (by omega)
  · obtain ⟨T, n0, n1⟩ := kb.tab ht
    have ht5 : rf h5 13 m = some t := by rw [c.rf ma]; exact ht
    have T5 := (kb5.tab ht5).1
    have ta : t ≠ a := fun w => by have := T.1; rw [w] at this; omega
    rw [ht]
    refine ⟨n + 1, adv_init T5 n1 ta (n + 1) 0 h5 (by omega) (Ifx.refl h5 a) g34 (by omega) g31 (fun h6 A => ?_)⟩
    obtain ⟨⟨c3, i3, r3⟩, idx', Y3, a1, a2, a3, a4, a5, a6⟩ := A
    rw [restN_all] at a3 a4 a5
    refine fin h6 (c.trans c3) ⟨by rw [c3.1, c.1]; exact ka, by rw [r3 35 (by omega)]; exact g35, ?_, a4, idx', Y3, a1, a2, a3, a5, a6⟩
    rw [i3 33 (by omega), g33, c3.it ma, m16]
