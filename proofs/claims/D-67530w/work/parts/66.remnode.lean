/-! REMOVENODE, the whole -/
set_option maxRecDepth 100000
theorem lc_sub {h : Hp} {A B : List Nat} (hs : A.Sublist B) : lc h A ≤ lc h B := (hs.filter _).length_le
theorem s_rem206 {h : Hp} {m n t i p C Q : Nat} {bn : Nat → List Nat} {O X Y : List Nat} {l5 : Int32} {l7 : Option Nat} {K : Option Nat → Hp → Prop} (k : MI h m n O) (kb : MB h m n bn O) (hl : O.length ≤ 1464) (ht : rf h 13 m = some t) (hi : i < n) (eL : bn i = X ++ p :: Y) (hk7 : (∀ a ∈ bn i, kd h a = 7) ∨ ((X = [] ∧ l7 = some p) ∨ (X ≠ [] ∧ l7 = X.getLast?))) (B0 : l5 = 0 → Bud h n O C Q) (B1 : l5 ≠ 0 → Bud h n O (C + 2928) (Q + 24888))
    (fin : ∀ h' O' L', MI h' m n O' → MB h' m n (updB bn i L') O' → Mst h h' m O O' → O'.map (pr h') = (flt p O).map (pr h) → rf h' 2 p = rf h 2 p → (l5 = 0 → O' = flt p O ∧ L' = flt p (bn i)) → Bud h' n O' C Q → K (some p) h') : wp_J1_removeNode_b206 K h (some m) l5 (some t) l7 (nI i) (some p) := by
  obtain ⟨T, n0, n1⟩ := kb.tab ht
  obtain ⟨b1, b2⟩ := T.2.2 i hi
  have lk0 := lkOf_ok h m
  have pL : p ∈ bn i := by rw [eL]; simp
  have hO0 : ∀ x ∈ O, kd h x ≠ 0 := fun x hx => by have := kb.2.2.2.1 x hx; omega
  have ndL := b2.2.1.nd
  rw [eL] at ndL
  have fL : flt p (bn i) = X ++ Y := by rw [eL]; exact flt_mid ndL
  have nd' := List.nodup_append.mp ndL
  have pX : p ∉ X := fun w => nd'.2.2 p w p List.mem_cons_self rfl
  have pY : p ∉ Y := (List.nodup_cons.mp nd'.2.1).1
  have XY : ∀ a ∈ X, a ∉ Y := fun a ha hy => nd'.2.2 a ha a (List.mem_cons_of_mem _ hy) rfl
  have BB : Bud h n O C Q := by
    by_cases w : l5 = 0
    · exact B0 w
    · exact (B1 w).mono (by omega) (by omega)
  have slO : (flt p O).Sublist O := List.filter_sublist
  have lenL : (bn i).length ≤ O.length := by
    obtain ⟨R, pR, -, -⟩ := kb.cut hi
    rw [pR.length_eq, List.length_append]; omega
  -- a list
  have listCase : ∀ h1, Chg (PH (bn i) t i) h h1 → rf h1 (100 + i) t = (X ++ Y).head? → NXs h1 3 (X ++ Y) none → (∀ a ∈ bn i, kd h a = lkOf h m) → wp_J1_removeNode_b260 K h1 (some m) (some p) := by
    intro h1 c1 e1 nx kl
    have E : Evo (PH (bn i) t i) h h1 m O id := c1.evo kb.2.1 hO0 (fun f x q => q.fl)
    have I1 : IntS h h1 := c1.int PH.no
    have slL : (X ++ Y).Sublist (bn i) := by rw [eL]; exact (List.sublist_cons_self p Y).append_left X
    have kp : ∀ a f, f < 3 → rf h1 f a = rf h f a ∧ it h1 f a = it h f a := fun a f hf => ⟨c1.rf (fun q => by have := q.fl; omega), c1.it (fun q => by have := q.fl; omega)⟩
    have BN : Bin h1 (lkOf h m) n i (X ++ Y) := by
      refine ⟨fun a ha => ?_, HD.fra (h := h) (List.Pairwise.sublist slL b2.2.1) (fun a _ => (kp a 0 (by omega)).2), nx, Or.inl (fun a ha => by rw [c1.1]; exact kl a (slL.subset ha))⟩
      have := b2.1 a (slL.subset ha)
      exact ⟨this.1.fra I1 (kp a 0 (by omega)).2 (kp a 1 (by omega)).1 (kp a 2 (by omega)).1, by rw [(kp a 0 (by omega)).2]; exact this.2⟩
    refine s_rem260 (s := id) (L' := X ++ Y) k kb hl ht hi pL E (fun _ _ => rfl) (by rw [fL]; simp) e1 BN ?_ (fun h' O' q1 q1' q2 q3 q4 q5 q6 => fin h' O' (X ++ Y) q1 q1' q2 q3 q4 (fun _ => ⟨(q5 rfl).1, fL.symm⟩) q6)
    have : lc h1 ((flt p O).map id) ≤ lc h O := by
      rw [List.map_id, lc_frame (h := h) (fun x _ => c1.1 x)]
      exact lc_sub slO
    unfold Bud at BB
    rw [c1.2.2.1, c1.2.2.2.1]
    omega
  have p3 : rf h 3 p = Y.head? := by
    have := b2.2.2.1
    rw [eL] at this
    have := NXs_at this
    simpa using this
  have nx := b2.2.2.1
  rw [eL] at nx
  obtain ⟨nX, n2, nY⟩ := (NXs_app h 3 none X (p :: Y)).mp nx
  unfold wp_J1_removeNode_b206
  refine ⟨fun a e q7 => ⟨(fun b hb => by cases hb; cases e; exact q7), ?_⟩, fun a e q5 => ?_, (fun w => by cases w)⟩
  · cases e
    have kp7 : kd h p = 7 := by simpa using q7
    rcases b2.2.2.2 with w | ⟨w1, w2, r, S, sub, w3, w4, w5⟩
    · have := w p pL; omega
    · refine s_removeTreeNode (lk := lkOf h m) kb.1 rfl hO0 kb.2.1 kb.mO kb.2.2.2.2.2.1 (kb.inO hi) b2 w1 w2 w3 w4 w5 T.1 T.2.1 hi (by omega) b1 pL (fun q => ?_) (fun h1 s L' E sx pm e b q0 c1 c2 _ => ?_)
      · have := (B1 q).rm
        unfold Rm at this ⊢
        omega
      · refine s_rem260 k kb hl ht hi pL E sx pm e b ?_ (fun h' O' q1 q1' q2 q3 q4 q5 q6 => fin h' O' L' q1 q1' q2 q3 q4 (fun z => ⟨(q5 (q0 z).1).1, (q0 z).2⟩) q6)
        by_cases z : l5 = 0
        · rw [if_pos z] at c1 c2
          have hs := (q0 z).1
          have : lc h1 ((flt p O).map s) ≤ lc h O := by
            rw [hs, List.map_id, lc_frame (h := h) (fun x hx => (E.1.1 x (hO0 x (slO.subset hx))).1)]
            exact lc_sub slO
          unfold Bud at BB
          omega
        · rw [if_neg z] at c1 c2
          have l1 := lc_le h1 ((flt p O).map s)
          rw [List.length_map] at l1
          have l2 := slO.length_le
          have B2 := B1 z
          unfold Bud at B2
          omega
  · cases e
    have kp5 : kd h p = 5 ∨ kd h p = 6 := by simpa using q5
    have kl : ∀ a ∈ bn i, kd h a = lkOf h m := by
      rcases b2.2.2.2 with w | ⟨w1, w2⟩
      · exact w
      · have := w1 p pL; omega
    have h7 : (X = [] ∧ l7 = some p) ∨ (X ≠ [] ∧ l7 = X.getLast?) := by
      rcases hk7 with w | w
      · have := w p pL; omega
      · exact w
    refine ⟨fun q => ?_, fun q => ?_⟩
    · rcases h7 with w | ⟨w1, w2⟩
      · exact absurd w.2.symm q
      · obtain ⟨X0, l, eX⟩ := split_last w1
        have lX : l ∈ X := by rw [eX]; simp
        have hlast : X.getLast? = some l := by rw [eX]; simp
        refine ⟨l, by rw [w2, hlast], ?_⟩
        rintro h1 rfl
        refine listCase _ ((Chg.refl _ h).wR _ (Or.inl ⟨by rw [eL]; exact List.mem_append_left _ lX, Or.inl rfl⟩)) ?_ ?_ kl
        · rw [rf_wR, if_neg (by omega), b1, eL]
          cases X with
          | nil => exact absurd rfl w1
          | cons x X => rfl
        · refine (NXs_app _ 3 none X Y).mpr ⟨NXs_re nX nd'.1 (fun a ha => ?_) (fun a ha hn => ?_), NXs_fr (fun a ha => ?_) nY⟩
          · rw [hlast] at ha; cases ha
            rw [rf_wR, if_pos ⟨rfl, rfl⟩, p3]; simp
          · rw [rf_wR, if_neg (fun (z : 3 = 3 ∧ a = l) => hn (by rw [z.2]; exact hlast))]
          · rw [rf_wR, if_neg (fun (z : 3 = 3 ∧ a = l) => XY l lX (z.2 ▸ ha))]
    · rcases h7 with ⟨w1, w2⟩ | ⟨w1, w2⟩
      · refine ⟨t, rfl, i, rfl, by rw [T.2.1]; exact hi, ?_⟩
        rintro h1 rfl
        refine listCase _ ((Chg.refl _ h).wR _ (Or.inr ⟨rfl, rfl⟩)) (by rw [rf_wR, if_pos ⟨rfl, rfl⟩, p3, w1]; rfl) ?_ kl
        rw [w1]
        exact NXs_fr (fun a _ => by rw [rf_wR, if_neg (by omega)]) nY
      · rw [w2] at q
        exact absurd (mem_last q.symm) pX
theorem s_rem171 {h : Hp} {m n t i p v C Q : Nat} {bn : Nat → List Nat} {O X Y : List Nat} {l4 l5 : Int32} {l3 l7 : Option Nat} {K : Option Nat → Hp → Prop} (k : MI h m n O) (kb : MB h m n bn O) (hl : O.length ≤ 1464) (ht : rf h 13 m = some t) (hi : i < n) (eL : bn i = X ++ p :: Y) (hk7 : (∀ a ∈ bn i, kd h a = 7) ∨ ((X = [] ∧ l7 = some p) ∨ (X ≠ [] ∧ l7 = X.getLast?))) (B0 : l5 = 0 → Bud h n O C Q) (B1 : l5 ≠ 0 → Bud h n O (C + 2928) (Q + 24888)) (hv : l4 ≠ 0 → l3 = some v)
    (fin1 : (l4 = 0 ∨ valI h p = it h 23 v) → ∀ h' O' L', MI h' m n O' → MB h' m n (updB bn i L') O' → Mst h h' m O O' → O'.map (pr h') = (flt p O).map (pr h) → rf h' 2 p = rf h 2 p → (l5 = 0 → O' = flt p O ∧ L' = flt p (bn i)) → Bud h' n O' C Q → K (some p) h')
    (fin0 : l4 ≠ 0 → valI h p ≠ it h 23 v → K none h) : wp_J1_removeNode_b171 K h (some m) l3 l4 l5 (some t) l7 (nI i) (some p) := by
  have pL : p ∈ bn i := by rw [eL]; simp
  obtain ⟨b, hb, hbv⟩ := (kb.ok p (kb.inO hi p pL)).2.val
  unfold wp_J1_removeNode_b171
  refine ⟨(fun w => by cases w), fun a e => ?_⟩
  cases e
  refine ⟨fun q => s_rem206 k kb hl ht hi eL hk7 B0 B1 (fin1 (Or.inl q)), fun q => ?_⟩
  rw [hv q]
  exact val_test (P := fun h' => wp_J1_removeNode_b206 K h' (some m) l5 (some t) l7 (nI i) (some p)) (Q := fun h' => wp_J1_removeNode_b289 K h') hb (fun w => s_rem206 k kb hl ht hi eL hk7 B0 B1 (fin1 (Or.inr (hbv.trans w)))) (fun w => fin0 q (fun z => w (hbv.symm.trans z)))
theorem rem_loop {K : Option Nat → Hp → Prop} {h : Hp} {m t i c : Nat} {L : List Nat} {z l4 l5 : Int32} {l3 : Option Nat} (hok : ∀ x ∈ L, NodeK h x) (hz : z = spr (it h 23 c)) (hnx : NXs h 3 L none)
    (f1 : ∀ X w p Y, L = X ++ w :: p :: Y → it h 0 p = z → wp_J1_removeNode_b171 K h (some m) l3 l4 l5 (some t) (some w) (nI i) (some p)) (f0 : (∀ a ∈ L, it h 0 a ≠ z) → K none h) :
    ∀ (Y : List Nat) (p : Nat) (X : List Nat) (w f : Nat), L = X ++ w :: p :: Y → Y.length + 1 ≤ f → (∀ x ∈ X ++ [w], it h 0 x ≠ z) → wp_J1_removeNode_b115 K f h (some m) z (some c) l3 l4 l5 (some t) (some w) (nI i) none (some p)
  | Y, p, X, w, 0, _, hn, _ => by omega
  | Y, p, X, w, f + 1, e, hn, ne => by
    have pL : p ∈ L := by rw [e]; simp
    have p3 : rf h 3 p = Y.head? := by
      have e2 : L = (X ++ [w]) ++ p :: Y := by rw [e]; simp
      have := hnx
      rw [e2] at this
      have := NXs_at this
      simpa using this
    have next : it h 0 p ≠ z → wp_J1_removeNode_b156 (wp_J1_removeNode_b115 K f) K h (some m) z (some c) l3 l4 l5 (some t) (nI i) none (some p) := fun q => by
      have ne' : ∀ x ∈ (X ++ [w]) ++ [p], it h 0 x ≠ z := fun x hx => by
        rcases List.mem_append.mp hx with y | y
        · exact ne x y
        · rw [List.mem_singleton.mp y]; exact q
      unfold wp_J1_removeNode_b156
      refine ⟨p, rfl, fun y => ?_, fun y hy => ?_⟩
      · rw [p3] at y
        have hY : Y = [] := by cases Y with
          | nil => rfl
          | cons y Y => cases y
        unfold wp_J1_removeNode_b171 wp_J1_removeNode_b289
        refine ⟨fun _ => f0 ?_, (fun a w => by cases w)⟩
        rw [e, hY]
        intro x hx
        exact ne' x (by simpa using hx)
      · rw [p3] at hy ⊢
        cases Y with
        | nil => cases hy
        | cons y' Y => exact rem_loop hok hz hnx f1 f0 Y y' (X ++ [w]) p f (by rw [e]; simp) (by simpa using hn) ne'
    obtain ⟨kk, hkk, hk4, hks⟩ := hok p pL
    unfold wp_J1_removeNode_b115
    refine ⟨p, rfl, next, fun q => ?_⟩
    have fin2 := f1 X w p Y e q
    exact key_test (P := fun h' => wp_J1_removeNode_b149 K h' (some m) l3 l4 l5 (some t) (some w) (nI i) (some p)) (Q := fun h' => wp_J1_removeNode_b156 (wp_J1_removeNode_b115 K f) K h' (some m) z (some c) l3 l4 l5 (some t) (nI i) none (some p)) hkk (fun _ => fin2) (fun y => absurd (spr_inj (hks.symm.trans (q.trans hz))) y)
theorem s_removeNode {h : Hp} {m n v C Q : Nat} {bn : Nat → List Nat} {O : List Nat} {z l4 l5 : Int32} {c : Nat} {l3 : Option Nat} {K : Option Nat → Hp → Prop} (k : MI h m n O) (kb : MB h m n bn O) (hl : O.length ≤ 1464) (hz : z = spr (it h 23 c)) (B0 : l5 = 0 → Bud h n O C Q) (B1 : l5 ≠ 0 → Bud h n O (C + 2928) (Q + 24888)) (hv : l4 ≠ 0 → l3 = some v)
    (fin1 : ∀ p ∈ O, keyI h p = it h 23 c → (l4 = 0 ∨ valI h p = it h 23 v) → ∀ h' O' i L', i < n → p ∈ bn i → MI h' m n O' → MB h' m n (updB bn i L') O' → Mst h h' m O O' → O'.map (pr h') = (flt p O).map (pr h) → rf h' 2 p = rf h 2 p → (l5 = 0 → O' = flt p O ∧ L' = flt p (bn i)) → Bud h' n O' C Q → K (some p) h')
    (fin0 : (∀ p ∈ O, keyI h p = it h 23 c → l4 ≠ 0 ∧ valI h p ≠ it h 23 v) → K none h) : wp_J1_removeNode h (some m) z (some c) l3 l4 l5 K := by
  unfold wp_J1_removeNode
  refine ⟨m, rfl, fun q => ?_, fun t ht _ => ?_⟩
  · have hn0 : n = 0 := by
      rcases kb.2.2.2.2.1 with w | ⟨e, t, w1, w2, w3, w4⟩
      · exact w.1
      · rw [q] at w3; cases w3
    subst hn0
    have hO : O = [] := List.eq_nil_of_length_eq_zero kb.2.2.1.length_eq
    subst hO
    exact fin0 (fun a ha => by cases ha)
  · obtain ⟨T, n0, n1⟩ := kb.tab ht
    rw [T.2.1]
    obtain ⟨x1, x2⟩ := ix_ok (n := n) z n0 (by omega)
    generalize hzi : ix n z = i at x1 x2
    obtain ⟨b1, b2⟩ := T.2.2 i x2
    have ndL := b2.2.1
    have g0 : (∀ a ∈ bn i, it h 0 a ≠ z) → K none h := fun ne => fin0 (fun a ha e => by
      obtain ⟨w1, w2⟩ := key_bin kb ht hz hzi ha e
      exact absurd w2 (ne a w1))
    have uniq : ∀ p ∈ bn i, it h 0 p = z → ∀ q ∈ O, keyI h q = it h 23 c → q = p := fun p hp e q hq eq => by
      obtain ⟨w1, w2⟩ := key_bin kb ht hz hzi hq eq
      have inj : ∀ (A : List Nat), HD h A → p ∈ A → q ∈ A → q = p := by
        intro A
        induction A with
        | nil => intro _ w; cases w
        | cons a A ih =>
          intro hd hp hq
          have hd := List.pairwise_cons.mp hd
          rcases List.mem_cons.mp hp with y | y <;> rcases List.mem_cons.mp hq with u | u
          · rw [y, u]
          · exact absurd (by rw [← y, e, w2]) (hd.1 q u)
          · exact absurd (by rw [← u, e, w2]) (hd.1 p y)
          · exact ih hd.2 y u
      exact inj (bn i) ndL hp w1
    have g1 : ∀ X p Y l7, bn i = X ++ p :: Y → ((∀ a ∈ bn i, kd h a = 7) ∨ ((X = [] ∧ l7 = some p) ∨ (X ≠ [] ∧ l7 = X.getLast?))) → it h 0 p = z → wp_J1_removeNode_b171 K h (some m) l3 l4 l5 (some t) l7 (nI i) (some p) := fun X p Y l7 eL hk7 e => by
      have pL : p ∈ bn i := by rw [eL]; simp
      have key := (b2.1 p pL).1.1.key (e.trans hz)
      refine s_rem171 k kb hl ht x2 eL hk7 B0 B1 hv (fun w h' O' L' q1 q2 q3 q4 q5 q6 q7 => fin1 p (kb.inO x2 p pL) key w h' O' i L' x2 pL q1 q2 q3 q4 q5 q6 q7) (fun w1 w2 => fin0 (fun q hq eq => ?_))
      rw [uniq p pL e q hq eq]
      exact ⟨w1, w2⟩
    refine ⟨fun w => ?_, fun _ => ⟨i, x1, x2, fun q => ?_, fun a0 ha0 => ?_⟩⟩
    · have : nI n ≤ nI 0 := w
      rw [nI_leI (by omega) (by omega)] at this
      omega
    · have hb0 : bn i = [] := by
        rw [b1] at q
        cases e : bn i with
        | nil => rfl
        | cons x X => rw [e] at q; cases q
      exact g0 (fun a ha => by rw [hb0] at ha; cases ha)
    · have hL : (bn i).head? = some a0 := by rw [← b1]; exact ha0
      have aL : a0 ∈ bn i := List.mem_of_mem_head? hL
      obtain ⟨Y, hY⟩ : ∃ Y, bn i = a0 :: Y := by
        cases e : bn i with
        | nil => rw [e] at hL; cases hL
        | cons x X => rw [e] at hL; cases hL; exact ⟨X, rfl⟩
      have a3 : rf h 3 a0 = Y.head? := by
        have := b2.2.2.1
        rw [hY] at this
        have := this.1
        simpa using this
      rw [ha0, ht, x1]
      have none' : ∀ l7, (∀ a ∈ bn i, it h 0 a ≠ z) → wp_J1_removeNode_b171 K h (some m) l3 l4 l5 (some t) l7 (nI i) none := fun l7 ne => by
        unfold wp_J1_removeNode_b171 wp_J1_removeNode_b289
        exact ⟨fun _ => g0 ne, (fun a w => by cases w)⟩
      have b81 : it h 0 a0 ≠ z → wp_J1_removeNode_b81 K h (some m) z (some c) l3 l4 l5 (some t) (some a0) (nI i) none := fun ne => by
        unfold wp_J1_removeNode_b81
        refine ⟨a0, rfl, fun w => ?_, fun y hy => ⟨fun hk7 => ⟨(fun b hb => by cases hb; exact hk7), ?_⟩, fun hk5 => ?_⟩⟩
        · rw [a3] at w
          have hY0 : Y = [] := by cases Y with
            | nil => rfl
            | cons y Y => cases w
          refine none' _ (fun a ha => ?_)
          rw [hY, hY0] at ha
          rw [List.mem_singleton.mp ha]; exact ne
        · rcases b2.2.2.2 with w | ⟨w1, w2, r, S, sub, w3, w4, w5⟩
          · have := w a0 aL
            have := lkOf_ok h m
            simp at hk7
            omega
          · rw [hz]
            refine s_getTreeNode w3 w4 (fun a ha => (b2.1 a (w5.mem_iff.mp ha)).1.1) (w5.mem_iff.mpr aL) (fun a ha e _ => ?_) (fun ne2 _ => ?_)
            · obtain ⟨X, Y', eX⟩ := split_at (w5.mem_iff.mp ha)
              exact g1 X a Y' _ eX (Or.inl w1) (e.trans hz.symm)
            · exact none' _ (fun a ha e => ne2 a (w5.mem_iff.mpr ha) (e.trans hz))
        · rw [a3] at hy ⊢
          cases Y with
          | nil => cases hy
          | cons y' Y =>
            exact ⟨Y.length + 1, rem_loop (L := bn i) (fun x hx => (b2.1 x hx).1.1) hz b2.2.2.1 (fun X w p Y' eX e => g1 (X ++ [w]) p Y' (some w) (by rw [eX]; simp) (Or.inr (Or.inr ⟨by simp, by simp⟩)) e) g0 Y y' [] a0 _ hY (Nat.le_refl _) (fun x hx => by
              have : x = a0 := by simpa using hx
              rw [this]; exact ne)⟩
      refine ⟨b81, fun q => ?_⟩
      obtain ⟨kk, hkk, hk4, hks⟩ := (b2.1 a0 aL).1.1
      have fin2 := g1 [] a0 Y (some a0) hY (Or.inr (Or.inl ⟨rfl, rfl⟩)) q
      exact key_test (P := fun h' => wp_J1_removeNode_b74 K h' (some m) l3 l4 l5 (some t) (some a0) (nI i)) (Q := fun h' => wp_J1_removeNode_b81 K h' (some m) z (some c) l3 l4 l5 (some t) (some a0) (nI i) none) hkk (fun _ => fin2) (fun w => absurd (spr_inj (hks.symm.trans (q.trans hz))) w)
