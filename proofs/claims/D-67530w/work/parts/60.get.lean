/-! GETNODE, GET, CONTAINSKEY, CONTAINSVALUE, CLEAR, PUT -/
set_option maxRecDepth 100000
theorem gn_loop {h : Hp} {L : List Nat} {z : Int32} {c : Nat} {K : Option Nat → Hp → Prop} (hok : ∀ x ∈ L, NodeK h x) (hz : z = spr (it h 23 c)) (hnx : NXs h 3 L none) (f1 : ∀ a ∈ L, it h 0 a = z → K (some a) h) (f0 : (∀ a ∈ L, it h 0 a ≠ z) → K none h) :
    ∀ (Y : List Nat) (p : Nat) (X : List Nat) (f : Nat), L = X ++ p :: Y → Y.length + 1 ≤ f → (∀ x ∈ X, it h 0 x ≠ z) → wp_J1_getNode_b99 K f h (some c) (some p) z
  | Y, p, X, 0, _, hn, _ => by omega
  | Y, p, X, f + 1, e, hn, ne => by
    have pL : p ∈ L := by rw [e]; simp
    have p3 : rf h 3 p = Y.head? := by
      have := hnx
      rw [e] at this
      have := NXs_at this
      simpa using this
    have next : it h 0 p ≠ z → wp_J1_getNode_b137 (wp_J1_getNode_b99 K f) K h (some c) (some p) z := fun q => by
      have ne' : ∀ x ∈ X ++ [p], it h 0 x ≠ z := fun x hx => by
        rcases List.mem_append.mp hx with w | w
        · exact ne x w
        · rw [List.mem_singleton.mp w]; exact q
      unfold wp_J1_getNode_b137
      refine ⟨p, rfl, fun w => ?_, fun y hy => ?_⟩
      · rw [p3] at w
        have hY : Y = [] := by cases Y with
          | nil => rfl
          | cons y Y => cases w
        unfold wp_J1_getNode_b148
        refine f0 ?_
        rw [e, hY]; exact ne'
      · rw [p3] at hy ⊢
        cases Y with
        | nil => cases hy
        | cons y' Y => exact gn_loop hok hz hnx f1 f0 Y y' (X ++ [p]) f (by rw [e]; simp) (by simpa using hn) ne'
    obtain ⟨kk, hkk, hk4, hks⟩ := hok p pL
    unfold wp_J1_getNode_b99
    refine ⟨p, rfl, next, fun q => ?_⟩
    have fin2 := f1 p pL q
    exact key_test (P := fun h' => wp_J1_getNode_b134 K h' (some p)) (Q := fun h' => wp_J1_getNode_b137 (wp_J1_getNode_b99 K f) K h' (some c) (some p) z) hkk (fun _ => fin2) (fun w => absurd (spr_inj (hks.symm.trans (q.trans hz))) w)
theorem s_getNode {h : Hp} {m n : Nat} {O : List Nat} {c : Nat} {K : Option Nat → Hp → Prop} (k : MI h m n O) (f1 : ∀ a ∈ O, keyI h a = it h 23 c → K (some a) h) (f0 : (∀ a ∈ O, keyI h a ≠ it h 23 c) → K none h) : wp_J1_getNode h (some m) (some c) K := by
  obtain ⟨bn, kb⟩ := id k.1
  unfold wp_J1_getNode
  refine ⟨m, rfl, fun q => ?_, fun t ht _ => ?_⟩
  · have hn0 : n = 0 := by
      rcases kb.2.2.2.2.1 with w | ⟨e, t, w1, w2, w3, w4⟩
      · exact w.1
      · rw [q] at w3; cases w3
    subst hn0
    have hO : O = [] := List.eq_nil_of_length_eq_zero kb.2.2.1.length_eq
    subst hO
    exact f0 (fun a ha => by cases ha)
  · obtain ⟨T, n0, n1⟩ := kb.tab ht
    rw [T.2.1]
    refine ⟨fun w => ?_, fun _ => s_hash (fun _ => ?_)⟩
    · have : nI n ≤ nI 0 := w
      rw [nI_leI (by omega) (by omega)] at this
      omega
    · generalize hz : spr (it h 23 c) = z
      obtain ⟨x1, x2⟩ := ix_ok (n := n) z n0 (by omega)
      generalize hzi : ix n z = i at x1 x2
      obtain ⟨b1, b2⟩ := T.2.2 i x2
      have g1 : ∀ a ∈ bn i, it h 0 a = z → K (some a) h := fun a ha e => f1 a (kb.inO x2 a ha) ((b2.1 a ha).1.1.key (e.trans hz.symm))
      have g0 : (∀ a ∈ bn i, it h 0 a ≠ z) → K none h := fun ne => f0 (fun a ha e => by
        obtain ⟨w1, w2⟩ := key_bin kb ht hz.symm hzi ha e
        exact ne a w1 w2)
      refine ⟨i, x1, by rw [T.2.1]; exact x2, fun q => ?_, fun a0 ha0 => ?_⟩
      · have hb0 : bn i = [] := by
          rw [b1] at q
          cases e : bn i with
          | nil => rfl
          | cons x X => rw [e] at q; cases q
        exact g0 (fun a ha => by rw [hb0] at ha; cases ha)
      · have hL : (bn i).head? = some a0 := by rw [← b1]; exact ha0
        have aL : a0 ∈ bn i := List.mem_of_mem_head? hL
        obtain ⟨Y, hY⟩ : ∃ Y, bn i = a0 :: Y := by
          cases e : bn i with
          | nil => rw [e] at hL; cases hL
          | cons x X => rw [e] at hL; cases hL; exact ⟨X, rfl⟩
        have a3 : rf h 3 a0 = Y.head? := by
          have := b2.2.2.1
          rw [hY] at this
          have := this.1
          simpa using this
        rw [ha0]
        have b71 : it h 0 a0 ≠ z → wp_J1_getNode_b71 K h (some c) (some a0) z := fun ne => by
          unfold wp_J1_getNode_b71
          refine ⟨a0, rfl, fun w => ?_, fun y hy => ⟨fun hk7 => ⟨(fun b hb => by cases hb; exact hk7), ?_⟩, fun hk5 => ?_⟩⟩
          · rw [a3] at w
            have hY0 : Y = [] := by cases Y with
              | nil => rfl
              | cons y Y => cases w
            refine g0 (fun a ha => ?_)
            rw [hY, hY0] at ha
            rw [List.mem_singleton.mp ha]; exact ne
          · rcases b2.2.2.2 with w | ⟨w1, w2, r, S, sub, w3, w4, w5⟩
            · have := w a0 aL
              have := lkOf_ok h m
              simp at hk7
              omega
            · rw [← hz]
              refine s_getTreeNode w3 w4 (fun a ha => (b2.1 a (w5.mem_iff.mp ha)).1.1) (w5.mem_iff.mpr aL) (fun a ha e _ => g1 a (w5.mem_iff.mp ha) (e.trans hz)) (fun ne _ => g0 (fun a ha e => ne a (w5.mem_iff.mpr ha) (e.trans hz.symm)))
          · rw [a3] at hy ⊢
            cases Y with
            | nil => cases hy
            | cons y' Y => exact ⟨Y.length + 1, gn_loop (L := bn i) (fun x hx => (b2.1 x hx).1.1) hz.symm b2.2.2.1 g1 g0 Y y' [a0] _ hY (Nat.le_refl _) (fun x hx => by rw [List.mem_singleton.mp hx]; exact ne)⟩
        refine ⟨b71, fun q => ?_⟩
        obtain ⟨kk, hkk, hk4, hks⟩ := (b2.1 a0 aL).1.1
        have fin2 := g1 a0 aL q
        exact key_test (P := fun h' => wp_J1_getNode_b69 K h' (some a0)) (Q := fun h' => wp_J1_getNode_b71 K h' (some c) (some a0) z) hkk (fun _ => fin2) (fun w => absurd (spr_inj (hks.symm.trans (q.trans hz.symm))) w)
theorem Bud.use {h h' : Hp} {m n a C Q : Nat} {O : List Nat} (B : Bud h n O C Q) (ha : a ∈ O) (c : Chg (PO m O) h h') : Bud h' n (acc h m O a) C Q := by
  have : lc h' (acc h m O a) = lc h O := by
    rw [lc_perm (acc_perm ha)]
    exact lc_frame (fun x _ => c.1 x)
  unfold Bud at B ⊢
  rw [this, c.2.2.1, c.2.2.2.1]
  exact B
theorem s_get {h : Hp} {m n C Q : Nat} {O : List Nat} {c : Nat} {K : Option Nat → Hp → Prop} (k : MI h m n O) (B : Bud h n O C Q) (f1 : ∀ a ∈ O, keyI h a = it h 23 c → ∀ h', MI h' m n (acc h m O a) → Mst h h' m O (acc h m O a) → (∀ x ∈ O, pr h' x = pr h x) → Bud h' n (acc h m O a) C Q → K (rf h 2 a) h') (f0 : (∀ a ∈ O, keyI h a ≠ it h 23 c) → K none h) : (kd h m = 2 → wp_J1_get h (some m) (some c) K) ∧ (kd h m = 3 → wp_J2_get h (some m) (some c) K) := by
  obtain ⟨bn, kb⟩ := id k.1
  refine ⟨fun w => ?_, fun w => ?_⟩
  · unfold wp_J1_get
    refine ⟨m, rfl, s_getNode k (fun a ha e _ => ?_) (fun ne _ => ?_)⟩
    · unfold wp_J1_get_b5 wp_J1_get_b18
      obtain ⟨z1, z2, z3⟩ := k.use ha (Chg.refl _ h) (fun q => by omega) rfl
      exact ⟨(fun q => by cases q), fun a' q => by cases q; exact f1 a ha e h z1 z2 z3 (B.use ha (Chg.refl _ h))⟩
    · unfold wp_J1_get_b5 wp_J1_get_b18
      exact ⟨fun _ => f0 ne, (fun a q => by cases q)⟩
  · unfold wp_J2_get
    refine ⟨m, rfl, s_getNode k (fun a ha e _ => ?_) (fun ne _ => ⟨fun _ => f0 ne, (fun a q => by cases q)⟩)⟩
    refine ⟨(fun q => by cases q), fun a' q _ => ?_⟩
    cases q
    refine ⟨fun q => ?_, fun q => ?_⟩
    · unfold wp_J2_get_b24
      have ea : acc h m O a = O := by unfold acc; rw [if_neg (fun z => by rw [q] at z; cases z.2)]
      obtain ⟨z1, z2, z3⟩ := k.use ha (Chg.refl _ h) (fun _ => by rw [ea]; exact kb.2.2.2.2.2.1 w) rfl
      exact ⟨a, rfl, f1 a ha e h z1 z2 z3 (B.use ha (Chg.refl _ h))⟩
    · refine (s_access (K := fun h' => Ex h h' → wp_J2_get_b24 K h' (some a)) k ha (fun h' c M S P _ => ?_)).2 w
      unfold wp_J2_get_b24
      refine ⟨a, rfl, ?_⟩
      rw [c.rf (fun q => by have := q.fl; omega)]
      exact f1 a ha e h' M S P (B.use ha c)
theorem s_getOrDefault {h : Hp} {m n C Q : Nat} {O : List Nat} {c : Nat} {d : Option Nat} {K : Option Nat → Hp → Prop} (k : MI h m n O) (B : Bud h n O C Q) (f1 : ∀ a ∈ O, keyI h a = it h 23 c → ∀ h', MI h' m n (acc h m O a) → Mst h h' m O (acc h m O a) → (∀ x ∈ O, pr h' x = pr h x) → Bud h' n (acc h m O a) C Q → K (rf h 2 a) h') (f0 : (∀ a ∈ O, keyI h a ≠ it h 23 c) → K d h) : (kd h m = 2 → wp_J1_getOrDefault h (some m) (some c) d K) ∧ (kd h m = 3 → wp_J2_getOrDefault h (some m) (some c) d K) := by
  obtain ⟨bn, kb⟩ := id k.1
  refine ⟨fun w => ?_, fun w => ?_⟩
  · unfold wp_J1_getOrDefault
    refine ⟨m, rfl, s_getNode k (fun a ha e _ => ?_) (fun ne _ => ?_)⟩
    · unfold wp_J1_getOrDefault_b5 wp_J1_getOrDefault_b18
      obtain ⟨z1, z2, z3⟩ := k.use ha (Chg.refl _ h) (fun q => by omega) rfl
      exact ⟨(fun q => by cases q), fun a' q => by cases q; exact f1 a ha e h z1 z2 z3 (B.use ha (Chg.refl _ h))⟩
    · unfold wp_J1_getOrDefault_b5 wp_J1_getOrDefault_b18
      exact ⟨fun _ => f0 ne, (fun a q => by cases q)⟩
  · unfold wp_J2_getOrDefault
    refine ⟨m, rfl, s_getNode k (fun a ha e _ => ?_) (fun ne _ => ⟨fun _ => f0 ne, (fun a q => by cases q)⟩)⟩
    refine ⟨(fun q => by cases q), fun a' q _ => ?_⟩
    cases q
    refine ⟨fun q => ?_, fun q => ?_⟩
    · unfold wp_J2_getOrDefault_b24
      have ea : acc h m O a = O := by unfold acc; rw [if_neg (fun z => by rw [q] at z; cases z.2)]
      obtain ⟨z1, z2, z3⟩ := k.use ha (Chg.refl _ h) (fun _ => by rw [ea]; exact kb.2.2.2.2.2.1 w) rfl
      exact ⟨a, rfl, f1 a ha e h z1 z2 z3 (B.use ha (Chg.refl _ h))⟩
    · refine (s_access (K := fun h' => Ex h h' → wp_J2_getOrDefault_b24 K h' (some a)) k ha (fun h' c M S P _ => ?_)).2 w
      unfold wp_J2_getOrDefault_b24
      refine ⟨a, rfl, ?_⟩
      rw [c.rf (fun q => by have := q.fl; omega)]
      exact f1 a ha e h' M S P (B.use ha c)
theorem s_containsKey {h : Hp} {m n : Nat} {O : List Nat} {c : Nat} {K : Int32 → Hp → Prop} (k : MI h m n O) (f1 : ∀ a ∈ O, keyI h a = it h 23 c → K 1 h) (f0 : (∀ a ∈ O, keyI h a ≠ it h 23 c) → K 0 h) : wp_J1_containsKey h (some m) (some c) K := by
  unfold wp_J1_containsKey
  refine ⟨m, rfl, s_getNode k (fun a ha e _ => ?_) (fun ne _ => ?_)⟩
  · unfold wp_J1_containsKey_b5 wp_J1_containsKey_b13
    exact ⟨(fun q => by cases q), fun a' q => ⟨Or.inr rfl, f1 a ha e⟩⟩
  · unfold wp_J1_containsKey_b5 wp_J1_containsKey_b13
    exact ⟨fun _ => ⟨Or.inl rfl, f0 ne⟩, (fun a q => by cases q)⟩
theorem s_put {h : Hp} {m n C Q : Nat} {O : List Nat} {c v : Nat} {K : Option Nat → Hp → Prop} (k : MI h m n O) (hl : O.length ≤ 1463) (kc : kd h c = 4 ∨ kd h c = 60) (kv : kd h v = 4 ∨ kd h v = 60) (B : Bud h n O (C + 2) (Q + 17))
    (fin1 : ∀ a ∈ O, keyI h a = it h 23 c → ∀ h', MI h' m n (acc h m O a) → Mst h h' m O (acc h m O a) → (∀ x ∈ O, pr h' x = if x = a then (keyI h a, it h 23 v) else pr h x) → Bud h' n (acc h m O a) C Q → K (rf h 2 a) h')
    (fin0 : (∀ x ∈ O, keyI h x ≠ it h 23 c) → ∀ h' n' O', MI h' m n' O' → Mst h h' m O O' → O'.map (pr h') = O.map (pr h) ++ [(it h 23 c, it h 23 v)] → Bud h' n' O' C Q → K none h') :
    wp_J1_put h (some m) (some c) (some v) K := by
  unfold wp_J1_put wp_J1_put_b12
  refine s_hash (fun _ => ⟨m, rfl, s_putVal k hl rfl kc kv B (fun a ha e h' q1 q2 q3 q4 _ => fin1 a ha e h' q1 q2 (fun x hx => ?_) q4) (fun ne h' n' O' q1 q2 q3 q4 _ => fin0 ne h' n' O' q1 q2 q3 q4)⟩)
  rw [q3 x hx]
  by_cases w : x = a
  · rw [if_pos ⟨w, rfl⟩, if_pos w]
  · rw [if_neg (fun z => w z.1), if_neg w]
theorem s_putIfAbsent {h : Hp} {m n C Q : Nat} {O : List Nat} {c v : Nat} {K : Option Nat → Hp → Prop} (k : MI h m n O) (hl : O.length ≤ 1463) (kc : kd h c = 4 ∨ kd h c = 60) (kv : kd h v = 4 ∨ kd h v = 60) (B : Bud h n O (C + 2) (Q + 17))
    (fin1 : ∀ a ∈ O, keyI h a = it h 23 c → ∀ h', MI h' m n (acc h m O a) → Mst h h' m O (acc h m O a) → (∀ x ∈ O, pr h' x = pr h x) → Bud h' n (acc h m O a) C Q → K (rf h 2 a) h')
    (fin0 : (∀ x ∈ O, keyI h x ≠ it h 23 c) → ∀ h' n' O', MI h' m n' O' → Mst h h' m O O' → O'.map (pr h') = O.map (pr h) ++ [(it h 23 c, it h 23 v)] → Bud h' n' O' C Q → K none h') :
    wp_J1_putIfAbsent h (some m) (some c) (some v) K := by
  unfold wp_J1_putIfAbsent wp_J1_putIfAbsent_b12
  refine s_hash (fun _ => ⟨m, rfl, s_putVal k hl rfl kc kv B (fun a ha e h' q1 q2 q3 q4 _ => fin1 a ha e h' q1 q2 (fun x hx => ?_) q4) (fun ne h' n' O' q1 q2 q3 q4 _ => fin0 ne h' n' O' q1 q2 q3 q4)⟩)
  rw [q3 x hx, if_neg (fun z => by cases z.2)]
/-- the value of a node is held against c -/
theorem val_test {h : Hp} {a b c : Nat} {P : Hp → Prop} {Q : Hp → Prop} (hb : rf h 2 a = some b) (kp : it h 23 b = it h 23 c → P h) (kq : ¬ it h 23 b = it h 23 c → Q h) :
    ((rf h 2 a = some c → P h) ∧ (¬ rf h 2 a = some c → ((some c = none → Q h) ∧ (∀ a1, some c = some a1 → wp_J5_equals h (some c) (rf h 2 a) (fun r h' => Ex h h' → ((r = 0 → Q h') ∧ (¬ r = 0 → P h'))))))) := by
  refine ⟨fun q => kp (by rw [hb] at q; cases q; rfl), fun q => ⟨(fun q => by cases q), fun a1 e => ?_⟩⟩
  rw [hb]
  exact s_equals (fun e _ => ⟨(fun q => by cases q), fun _ => kp e.symm⟩) (fun e _ => ⟨fun _ => kq (fun z => e z.symm), fun q => absurd rfl q⟩)
theorem NodeV.val {h : Hp} {a : Nat} (k : NodeV h a) : ∃ b, rf h 2 a = some b ∧ valI h a = it h 23 b := by
  obtain ⟨b, h1, -⟩ := k
  exact ⟨b, h1, by unfold valI; rw [h1]⟩
theorem cv2_loop {h : Hp} {O : List Nat} {c : Nat} {K : Int32 → Hp → Prop} (hok : ∀ x ∈ O, NodeOK h x) (hnx : NXs h 5 O none) (f1 : ∀ a ∈ O, valI h a = it h 23 c → K 1 h) (f0 : (∀ a ∈ O, valI h a ≠ it h 23 c) → K 0 h) :
    ∀ (Y X : List Nat) (f : Nat), O = X ++ Y → Y.length + 1 ≤ f → (∀ x ∈ X, valI h x ≠ it h 23 c) → wp_J2_containsValue_b5 K f h (some c) Y.head?
  | Y, X, 0, _, hn, _ => by omega
  | [], X, f + 1, e, hn, ne => by
    unfold wp_J2_containsValue_b5
    refine ⟨fun _ => f0 ?_, (fun a q => by cases q)⟩
    rw [e]; simpa using ne
  | y :: Y, X, f + 1, e, hn, ne => by
    have yO : y ∈ O := by rw [e]; simp
    obtain ⟨b, hb, hv⟩ := (hok y yO).2.val
    have y5 : rf h 5 y = Y.head? := by
      have := hnx
      rw [e] at this
      have := NXs_at this
      simpa using this
    unfold wp_J2_containsValue_b5
    refine ⟨(fun q => by cases q), fun a q => ?_⟩
    cases q
    refine val_test (P := fun h' => wp_J2_containsValue_b31 K h') (Q := fun h' => wp_J2_containsValue_b33 (wp_J2_containsValue_b5 K f) K h' (some c) (some y)) hb (fun w => f1 y yO (hv.trans w)) (fun w => ?_)
    unfold wp_J2_containsValue_b33
    refine ⟨y, rfl, ?_⟩
    rw [y5]
    exact cv2_loop hok hnx f1 f0 Y (X ++ [y]) f (by rw [e]; simp) (by simpa using hn) (fun x hx => by
      rcases List.mem_append.mp hx with z | z
      · exact ne x z
      · rw [List.mem_singleton.mp z, hv]; exact w)
theorem cv1_loop {h : Hp} {L : List Nat} {c : Nat} {K : Int32 → Hp → Prop} {G : Hp → Option Nat → Option Nat → Int32 → Int32 → Prop} {l4 : Option Nat} {l5 l6 : Int32} (hok : ∀ x ∈ L, NodeOK h x) (hnx : NXs h 3 L none) (f1 : ∀ a ∈ L, valI h a = it h 23 c → K 1 h) (f0 : (∀ a ∈ L, valI h a ≠ it h 23 c) → G h (some c) l4 l5 (l6 + 1)) :
    ∀ (Y X : List Nat) (f : Nat), L = X ++ Y → Y.length + 1 ≤ f → (∀ x ∈ X, valI h x ≠ it h 23 c) → wp_J1_containsValue_b41 G K f h (some c) l4 l5 l6 Y.head?
  | Y, X, 0, _, hn, _ => by omega
  | [], X, f + 1, e, hn, ne => by
    unfold wp_J1_containsValue_b41
    refine ⟨fun _ => f0 ?_, (fun a q => by cases q)⟩
    rw [e]; simpa using ne
  | y :: Y, X, f + 1, e, hn, ne => by
    have yO : y ∈ L := by rw [e]; simp
    obtain ⟨b, hb, hv⟩ := (hok y yO).2.val
    have y5 : rf h 3 y = Y.head? := by
      have := hnx
      rw [e] at this
      have := NXs_at this
      simpa using this
    unfold wp_J1_containsValue_b41
    refine ⟨(fun q => by cases q), fun a q => ?_⟩
    cases q
    refine val_test (P := fun h' => wp_J1_containsValue_b69 K h') (Q := fun h' => wp_J1_containsValue_b71 G (wp_J1_containsValue_b41 G K f) K h' (some c) l4 l5 l6 (some y)) hb (fun w => f1 y yO (hv.trans w)) (fun w => ?_)
    unfold wp_J1_containsValue_b71
    refine ⟨y, rfl, ?_⟩
    rw [y5]
    exact cv1_loop hok hnx f1 f0 Y (X ++ [y]) f (by rw [e]; simp) (by simpa using hn) (fun x hx => by
      rcases List.mem_append.mp hx with z | z
      · exact ne x z
      · rw [List.mem_singleton.mp z, hv]; exact w)
theorem cv1_main {h : Hp} {m n t : Nat} {bn : Nat → List Nat} {O : List Nat} {c : Nat} {K : Int32 → Hp → Prop} (kb : MB h m n bn O) (ht : rf h 13 m = some t) (f1 : ∀ a ∈ O, valI h a = it h 23 c → K 1 h) (f0 : (∀ a ∈ O, valI h a ≠ it h 23 c) → K 0 h) :
    ∀ (f j : Nat), j ≤ n → n + 1 ≤ f + j → (∀ i, i < j → ∀ a ∈ bn i, valI h a ≠ it h 23 c) → wp_J1_containsValue_b27 K f h (some c) (some t) (nI n) (nI j)
  | 0, j, hj, hn, ne => by omega
  | f + 1, j, hj, hn, ne => by
    obtain ⟨T, n0, n1⟩ := kb.tab ht
    unfold wp_J1_containsValue_b27
    refine ⟨fun q => ?_, fun q => ?_⟩
    · rw [nI_leI (by omega) (by omega)] at q
      unfold wp_J1_containsValue_b87
      refine f0 (fun a ha => ?_)
      obtain ⟨i, hi, ha⟩ := mem_nodes.mp (kb.2.2.1.mem_iff.mp ha)
      exact ne i (by omega) a ha
    · rw [nI_leI (by omega) (by omega)] at q
      obtain ⟨b1, b2⟩ := T.2.2 j (by omega)
      refine ⟨t, rfl, j, rfl, by rw [T.2.1]; omega, (bn j).length + 1, ?_⟩
      rw [b1]
      refine cv1_loop (fun x hx => (b2.1 x hx).1) b2.2.2.1 (fun a ha e => f1 a (kb.inO (by omega) a ha) e) (fun ne' => ?_) (bn j) [] _ rfl (Nat.le_refl _) (fun x hx => by cases hx)
      have := cv1_main kb ht f1 f0 f (j + 1) (by omega) (by omega) (fun i hi a ha => by
        by_cases e : i = j
        · subst e; exact ne' a ha
        · exact ne i (by omega) a ha)
      rw [← nI_add] at this
      exact this
theorem s_containsValue {h : Hp} {m n : Nat} {O : List Nat} {c : Nat} {K : Int32 → Hp → Prop} (k : MI h m n O) (hl : O.length ≤ 1464) (f1 : ∀ a ∈ O, valI h a = it h 23 c → K 1 h) (f0 : (∀ a ∈ O, valI h a ≠ it h 23 c) → K 0 h) : (kd h m = 2 → wp_J1_containsValue h (some m) (some c) K) ∧ (kd h m = 3 → wp_J2_containsValue h (some m) (some c) K) := by
  obtain ⟨bn, kb⟩ := id k.1
  refine ⟨fun w => ?_, fun w => ?_⟩
  · unfold wp_J1_containsValue
    refine ⟨m, rfl, fun q => ?_, fun t ht => ⟨fun q => ?_, fun q _ => ?_⟩⟩
    · have hn0 : n = 0 := by
        rcases kb.2.2.2.2.1 with w | ⟨e, t, w1, w2, w3, w4⟩
        · exact w.1
        · rw [q] at w3; cases w3
      subst hn0
      have hO : O = [] := List.eq_nil_of_length_eq_zero kb.2.2.1.length_eq
      subst hO
      exact f0 (fun a ha => by cases ha)
    · have : nI O.length ≤ nI 0 := by rw [← k.2.1]; exact q
      rw [nI_leI (by omega) (by omega)] at this
      have hO : O = [] := List.eq_nil_of_length_eq_zero (by omega)
      subst hO
      exact f0 (fun a ha => by cases ha)
    · obtain ⟨T, n0, n1⟩ := kb.tab ht
      rw [ht, T.2.1]
      exact ⟨n + 1, cv1_main kb ht f1 f0 (n + 1) 0 (by omega) (by omega) (fun i hi => by omega)⟩
  · unfold wp_J2_containsValue
    have d := kb.2.2.2.2.2.1 w
    refine ⟨m, rfl, O.length + 1, ?_⟩
    rw [d.1]
    exact cv2_loop kb.ok d.2.2.1 f1 f0 O [] _ rfl (Nat.le_refl _) (fun x hx => by cases hx)
def PC (h : Hp) (m : Nat) (f b : Nat) : Prop := (b = m ∧ (f = 15 ∨ f = 16)) ∨ (rf h 13 m = some b ∧ 100 ≤ f)
theorem cl_loop {h0 : Hp} {m t n : Nat} {K : Hp → Prop} (ht : rf h0 13 m = some t) (lt : ln h0 t = n) (hn1 : n ≤ 2048) (fin : ∀ h, Chg (PC h0 m) h0 h → (∀ i, i < n → rf h (100 + i) t = none) → (∀ f, it h f m = it h0 f m) → K h) :
    ∀ (f j : Nat) (h : Hp), j ≤ n → n + 1 ≤ f + j → Chg (PC h0 m) h0 h → (∀ i, i < j → rf h (100 + i) t = none) → (∀ f, it h f m = it h0 f m) → wp_J1_clear_b33 K f h (some t) (nI j)
  | 0, j, h, hj, hn, c, z, zi => by omega
  | f + 1, j, h, hj, hn, c, z, zi => by
    unfold wp_J1_clear_b33
    refine ⟨t, rfl, fun _ => ?_⟩
    rw [c.2.1, lt]
    refine ⟨fun q => ?_, fun q => ?_⟩
    · rw [nI_leI (by omega) (by omega)] at q
      unfold wp_J1_clear_b49
      exact fin h c (fun i hi => z i (by omega)) zi
    · rw [nI_leI (by omega) (by omega)] at q
      refine ⟨j, rfl, by omega, ?_⟩
      rintro h1 rfl
      have := cl_loop ht lt hn1 fin f (j + 1) (wR h (100 + j) t none) (by omega) (by omega) (c.wR _ (Or.inr ⟨ht, by omega⟩)) (fun i hi => by
        by_cases e : i = j
        · rw [e, rf_wR, if_pos ⟨rfl, rfl⟩]
        · rw [rf_wR, if_neg (by omega)]; exact z i (by omega)) zi
      rw [← nI_add] at this
      exact this
theorem s_J1_clear {h : Hp} {m n : Nat} {bn : Nat → List Nat} {O : List Nat} {K : Hp → Prop} (kb : MB h m n bn O) (k15 : it h 15 m = nI O.length) (hl : O.length ≤ 1464) (fin : ∀ h', Chg (PC h m) h h' → (∀ t, rf h 13 m = some t → ∀ i, i < n → rf h' (100 + i) t = none) → it h' 15 m = 0 → K h') : wp_J1_clear h (some m) K := by
  unfold wp_J1_clear
  refine ⟨m, rfl, ?_⟩
  rintro h1 rfl
  have c1 : Chg (PC h m) h (wI h 16 m (it h 16 m + 1)) := (Chg.refl _ h).wI _ (Or.inl ⟨rfl, by omega⟩)
  have e15 : it (wI h 16 m (it h 16 m + 1)) 15 m = nI O.length := by rw [it_wI, if_neg (by omega)]; exact k15
  have e13 : rf (wI h 16 m (it h 16 m + 1)) 13 m = rf h 13 m := rfl
  have mt := kb.mt
  have m0 : kd h m ≠ 0 := by rcases kb.1 with w | w <;> rw [w] <;> decide
  refine ⟨fun q => ?_, fun t ht => ⟨fun q => ?_, fun q => ?_⟩⟩
  · have hn0 : n = 0 := by
      rcases kb.2.2.2.2.1 with w | ⟨e, t, w1, w2, w3, w4⟩
      · exact w.1
      · rw [e13, w3] at q; cases q
    have hO : O = [] := by
      have := kb.2.2.1.length_eq
      rw [hn0] at this
      exact List.eq_nil_of_length_eq_zero this
    exact fin _ c1 (fun t ht i hi => by omega) (by rw [e15, hO]; rfl)
  · have : nI O.length ≤ nI 0 := by rw [← e15]; exact q
    rw [nI_leI (by omega) (by omega)] at this
    have hO : O = [] := List.eq_nil_of_length_eq_zero (by omega)
    refine fin _ c1 (fun t' ht' i hi => ?_) (by rw [e15, hO]; rfl)
    have hb : bn i = [] := by
      cases e : bn i with
      | nil => rfl
      | cons x X =>
        have := kb.inO hi x (by rw [e]; simp)
        rw [hO] at this; cases this
    have := ((kb.tab ht').1.2.2 i hi).1
    rw [hb] at this
    exact this
  · rintro h2 rfl
    have ht0 : rf h 13 m = some t := ht
    obtain ⟨T, n0, n1⟩ := kb.tab ht0
    rw [ht]
    refine ⟨n + 1, cl_loop (h0 := wI (wI h 16 m (it h 16 m + 1)) 15 m 0) (m := m) ht T.2.1 n1 (fun h3 c3 z3 i3 => ?_) (n + 1) 0 _ (by omega) (by omega) (Chg.refl _ _) (fun i hi => by omega) (fun _ => rfl)⟩
    refine fin h3 ((c1.wI _ (Or.inl ⟨rfl, by omega⟩)).trans (c3.mono (fun f b q => q))) (fun t' ht' i hi => ?_) ?_
    · rw [ht0] at ht'; cases ht'
      exact z3 i hi
    · rw [i3, it_wI, if_pos ⟨rfl, rfl⟩]
theorem s_clear {h : Hp} {m n C Q : Nat} {O : List Nat} {K : Hp → Prop} (k : MI h m n O) (hl : O.length ≤ 1464) (B : Bud h n O C Q) (fin : ∀ h', MI h' m n [] → Mst h h' m O [] → Bud h' n [] C Q → K h') : (kd h m = 2 → wp_J1_clear h (some m) K) ∧ (kd h m = 3 → wp_J2_clear h (some m) K) := by
  obtain ⟨bn, kb⟩ := id k.1
  have m0 : kd h m ≠ 0 := by rcases kb.1 with w | w <;> rw [w] <;> decide
  have mt := kb.mt
  have main : ∀ h', Chg (fun f b => PC h m f b ∨ (b = m ∧ (f = 19 ∨ f = 20))) h h' → (∀ t, rf h 13 m = some t → ∀ i, i < n → rf h' (100 + i) t = none) → it h' 15 m = 0 → (kd h m = 3 → DL h' m []) → K h' := by
    intro h' c z e15 d
    have g : ∀ f, f ≠ 15 → f ≠ 16 → f ≠ 19 → f ≠ 20 → rf h' f m = rf h f m ∧ it h' f m = it h f m := fun f h1 h2 h3 h4 => by
      have : ¬ (PC h m f m ∨ (m = m ∧ (f = 19 ∨ f = 20))) := fun q => by
        rcases q with (q | q) | q
        · omega
        · exact mt q.1
        · omega
      exact ⟨c.rf this, c.it this⟩
    refine fin h' ⟨⟨fun _ => [], by rw [c.1]; exact kb.1, List.nodup_nil, by rw [nodes_nil], (fun a ha => by cases ha), ?_, fun w => d (by rw [← c.1]; exact w), by rw [(g 18 (by omega) (by omega) (by omega) (by omega)).2]; exact kb.2.2.2.2.2.2.1, ?_⟩, by rw [e15]; rfl, ?_⟩ ⟨c.ex, fun f b b0 bm bO bt => ?_, (fun x hx => by cases hx), fun t ht => Or.inl ?_, fun f hf => g f (by omega) (by omega) (by omega) (by omega)⟩ ?_
    · rcases kb.2.2.2.2.1 with w | ⟨e, t, w1, w2, w3, w4⟩
      · exact Or.inl ⟨w.1, by rw [(g 13 (by omega) (by omega) (by omega) (by omega)).1]; exact w.2⟩
      · exact Or.inr ⟨e, t, w1, w2, by rw [(g 13 (by omega) (by omega) (by omega) (by omega)).1]; exact w3, by rw [c.1]; exact w4.1, by rw [c.2.1]; exact w4.2.1, fun i hi => ⟨z t w3 i hi, Bin.nil _ _ _ _⟩⟩
    · have := kb.2.2.2.2.2.2.2
      unfold TH at this ⊢
      rw [(g 17 (by omega) (by omega) (by omega) (by omega)).2]; exact this
    · rw [c.1, (g 22 (by omega) (by omega) (by omega) (by omega)).2, (g 21 (by omega) (by omega) (by omega) (by omega)).2]; exact k.2.2
    · rcases c.2.2.2.2 f b with q | q
      · rcases q with (q | q) | q
        · exact absurd q.1 bm
        · exact absurd q.1 bt
        · exact absurd q.1 bm
      · exact q
    · rw [← (g 13 (by omega) (by omega) (by omega) (by omega)).1]; exact ht
    · unfold Bud at B ⊢
      rw [c.2.2.1, c.2.2.2.1, show lc h' [] = 0 from rfl]
      omega
  refine ⟨fun w => s_J1_clear kb k.2.1 hl (fun h' c z e => main h' (c.mono (fun f b q => Or.inl q)) z e (fun q => by omega)), fun w => ?_⟩
  unfold wp_J2_clear
  refine ⟨m, rfl, s_J1_clear kb k.2.1 hl (fun h' c z e _ => ?_)⟩
  rintro h2 rfl h3 rfl
  refine main _ (((c.mono (fun f b q => Or.inl q)).wR _ (Or.inr ⟨rfl, by omega⟩)).wR _ (Or.inr ⟨rfl, by omega⟩)) (fun t ht i hi => ?_) e (fun _ => ⟨by rw [rf_wR, if_pos ⟨rfl, rfl⟩]; rfl, by rw [rf_wR, if_neg (by omega), rf_wR, if_pos ⟨rfl, rfl⟩]; rfl, trivial, trivial⟩)
  rw [rf_wR, if_neg (by omega), rf_wR, if_neg (by omega)]
  exact z t ht i hi
