/-! PUTVAL -/
set_option maxRecDepth 100000
theorem MB.k67 {h : Hp} {m n : Nat} {bn : Nat → List Nat} {O : List Nat} (k : MB h m n bn O) (h3 : kd h m = 3) : ∀ x ∈ O, kd h x = 6 ∨ kd h x = 7 := fun x hx => by
  obtain ⟨i, hi, hx⟩ := mem_nodes.mp (k.2.2.1.mem_iff.mp hx)
  rcases k.2.2.2.2.1 with w | ⟨e, t, w1, w2, w3, w4⟩
  · omega
  · rcases (w4.2.2 i hi).2.2.2.2 with q | q
    · left
      rw [q x hx]; unfold lkOf; rw [if_neg (by omega)]
    · exact Or.inr (q.1 x hx)
theorem MI.use {h h' : Hp} {m n a : Nat} {O : List Nat} (k : MI h m n O) (ha : a ∈ O) (c : Chg (PO m O) h h') (d : kd h m = 3 → DL h' m (acc h m O a)) (e15 : it h' 15 m = it h 15 m) : MI h' m n (acc h m O a) ∧ Mst h h' m O (acc h m O a) ∧ (∀ x ∈ O, pr h' x = pr h x) := by
  obtain ⟨⟨bn, k⟩, k2, k3⟩ := k
  have p := acc_perm (h := h) (m := m) ha
  have g : ∀ f b, f ≠ 15 → f ≠ 16 → f ≠ 19 → f ≠ 20 → f ≠ 4 → f ≠ 5 → rf h' f b = rf h f b ∧ it h' f b = it h f b := fun f b _ _ _ _ _ _ => ⟨c.rf (fun q => by have := q.fl; omega), c.it (fun q => by have := q.fl; omega)⟩
  refine ⟨⟨⟨bn, k.ord c p d⟩, ?_, ?_⟩, c.mst p k.mO, fun x hx => pr_fra (k.ok x hx) (c.int (fun x q => by have := q.fl; omega)) (g 1 x (by omega) (by omega) (by omega) (by omega) (by omega) (by omega)).1 (g 2 x (by omega) (by omega) (by omega) (by omega) (by omega) (by omega)).1⟩
  · rw [e15, k2, p.length_eq]
  · rw [c.1, (g 22 m (by omega) (by omega) (by omega) (by omega) (by omega) (by omega)).2, (g 21 m (by omega) (by omega) (by omega) (by omega) (by omega) (by omega)).2]; exact k3
theorem acc2 {h : Hp} {m a : Nat} {O : List Nat} (h2 : kd h m = 2) : acc h m O a = O := by unfold acc; rw [if_neg (fun w => by omega)]
theorem s_access {h : Hp} {m n a : Nat} {O : List Nat} {K : Hp → Prop} (k : MI h m n O) (ha : a ∈ O) (fin : ∀ h', Chg (PO m O) h h' → MI h' m n (acc h m O a) → Mst h h' m O (acc h m O a) → (∀ x ∈ O, pr h' x = pr h x) → K h') : (kd h m = 2 → wp_J1_afterNodeAccess h (some m) (some a) K) ∧ (kd h m = 3 → wp_J2_afterNodeAccess h (some m) (some a) K) := by
  obtain ⟨bn, kb⟩ := id k.1
  refine ⟨fun w => ?_, fun w => ?_⟩
  · unfold wp_J1_afterNodeAccess
    obtain ⟨z1, z2, z3⟩ := k.use ha (Chg.refl _ h) (fun q => by omega) rfl
    exact fin h (Chg.refl _ h) z1 z2 z3
  · refine s_access3 w (kb.2.2.2.2.2.1 w) kb.2.1 kb.mO (kb.k67 w) (k.2.2 w).1 (k.2.2 w).2 ha (fun h' c d e => ?_)
    obtain ⟨z1, z2, z3⟩ := k.use ha c (fun _ => d) e
    exact fin h' c z1 z2 z3
theorem bin_val {h : Hp} {lk n i a v : Nat} {L : List Nat} (k : Bin h lk n i L) (kv : kd h v = 4 ∨ kd h v = 60) : Bin (wR h 2 a (some v)) lk n i L := by
  obtain ⟨k1, k2, k3, k4⟩ := k
  have g : ∀ f b, f ≠ 2 → rf (wR h 2 a (some v)) f b = rf h f b := fun f b hf => by rw [rf_wR, if_neg (fun w => hf w.1)]
  refine ⟨fun b hb => ⟨⟨?_, ?_⟩, (k1 b hb).2⟩, k2, NXs_fr (fun b _ => g 3 b (by omega)) k3, ?_⟩
  · obtain ⟨c, h1, h2, h3⟩ := (k1 b hb).1.1
    exact ⟨c, by rw [g 1 b (by omega)]; exact h1, h2, h3⟩
  · by_cases q : b = a
    · exact ⟨v, by rw [rf_wR, if_pos ⟨rfl, q⟩], kv⟩
    · obtain ⟨c, h1, h2⟩ := (k1 b hb).1.2
      exact ⟨c, by rw [rf_wR, if_neg (fun w => q w.2)]; exact h1, h2⟩
  · rcases k4 with w | ⟨w1, w2, r, S, sub, w3, w4, w5⟩
    · exact Or.inl w
    · exact Or.inr ⟨w1, PVs_fr (fun b _ => g 9 b (by omega)) w2, r, S, sub, w3.same (fun b _ => ⟨g 6 b (by omega), g 7 b (by omega), g 8 b (by omega)⟩), w4, w5⟩
theorem MI.val {h : Hp} {m n a v : Nat} {O : List Nat} (k : MI h m n O) (ha : a ∈ O) (kv : kd h v = 4 ∨ kd h v = 60) : MI (wR h 2 a (some v)) m n O ∧ Mst h (wR h 2 a (some v)) m O O ∧ (∀ x ∈ O, pr (wR h 2 a (some v)) x = if x = a then (keyI h a, it h 23 v) else pr h x) := by
  obtain ⟨⟨bn, k1, k2, k3, k4, k5, k6, k7, k8⟩, kk2, kk3⟩ := k
  have g : ∀ f b, f ≠ 2 → rf (wR h 2 a (some v)) f b = rf h f b := fun f b hf => by rw [rf_wR, if_neg (fun w => hf w.1)]
  refine ⟨⟨⟨bn, k1, k2, k3, k4, ?_, fun w => (k6 w).fra (g 19 m (by omega)) (g 20 m (by omega)) (fun b _ => g 5 b (by omega)) (fun b _ => g 4 b (by omega)), k7, k8⟩, kk2, kk3⟩, ⟨Ex.refl h, fun f b _ _ bO _ => ⟨?_, rfl⟩, fun x hx => Or.inl hx, fun t ht => Or.inl (by rw [← g 13 m (by omega)]; exact ht), fun f hf => ⟨g f m (by omega), rfl⟩⟩, fun x hx => ?_⟩
  · rcases k5 with w | ⟨e, t, w1, w2, w3, w4⟩
    · exact Or.inl ⟨w.1, by rw [g 13 m (by omega)]; exact w.2⟩
    · exact Or.inr ⟨e, t, w1, w2, by rw [g 13 m (by omega)]; exact w3, w4.1, w4.2.1, fun i hi => ⟨by rw [g _ t (by omega)]; exact (w4.2.2 i hi).1, bin_val (w4.2.2 i hi).2 kv⟩⟩
  · rw [rf_wR, if_neg (fun (w : f = 2 ∧ b = a) => bO (w.2 ▸ ha))]
  · unfold pr keyI valI
    by_cases q : x = a
    · subst q
      rw [if_pos rfl, rf_wR, if_neg (by omega), rf_wR, if_pos ⟨rfl, rfl⟩]; rfl
    · rw [if_neg q, rf_wR, if_neg (by omega), rf_wR, if_neg (fun w => q w.2)]; rfl
/-- a value is set (or not), the node is used -/
theorem s_put250 {h : Hp} {m n a : Nat} {O : List Nat} {K : Option Nat → Hp → Prop} {o : Option Nat} (k : MI h m n O) (ha : a ∈ O) (fin : ∀ h', Chg (PO m O) h h' → MI h' m n (acc h m O a) → Mst h h' m O (acc h m O a) → (∀ x ∈ O, pr h' x = pr h x) → K o h') : wp_J1_putVal_b250 K h (some m) (some a) o := by
  obtain ⟨bn, kb⟩ := id k.1
  unfold wp_J1_putVal_b250
  rcases kb.1 with w | w
  · exact Or.inl ⟨m, rfl, w, (s_access (K := fun h' => Ex h h' → wp_J1_putVal_b256 K h' o) k ha (fun h' z1 z2 z3 z4 _ => fin h' z1 z2 z3 z4)).1 w⟩
  · exact Or.inr ⟨m, rfl, w, (s_access (K := fun h' => Ex h h' → wp_J1_putVal_b256 K h' o) k ha (fun h' z1 z2 z3 z4 _ => fin h' z1 z2 z3 z4)).2 w⟩
theorem s_put222 {h : Hp} {m n a v C Q : Nat} {O : List Nat} {l4 l5 : Int32} {K : Option Nat → Hp → Prop} (k : MI h m n O) (ha : a ∈ O) (kv : kd h v = 4 ∨ kd h v = 60) (B : Bud h n O C Q)
    (fin : ∀ h', MI h' m n (acc h m O a) → Mst h h' m O (acc h m O a) → (∀ x ∈ O, pr h' x = if x = a ∧ l4 = 0 then (keyI h a, it h 23 v) else pr h x) → Bud h' n (acc h m O a) C Q → K (rf h 2 a) h') : wp_J1_putVal_b222 K h (some m) (some v) l4 l5 (some a) := by
  obtain ⟨bn, kb⟩ := id k.1
  have bud : ∀ h1 h', Chg (PO m O) h1 h' → nc h1 = nc h → ns h1 = ns h → (∀ x, kd h1 x = kd h x) → Bud h' n (acc h m O a) C Q := fun h1 h' c e1 e2 e3 => by
    have : lc h' (acc h m O a) = lc h O := by
      rw [lc_perm (acc_perm ha)]
      exact lc_frame (fun x _ => by rw [c.1, e3])
    unfold Bud at B ⊢
    rw [this, c.2.2.1, c.2.2.2.1, e1, e2]
    exact B
  unfold wp_J1_putVal_b222
  refine ⟨(fun w => by cases w), fun a' e => ?_⟩
  cases e
  refine ⟨fun q => ?_, fun q => ⟨fun w => ?_, fun _ _ => ?_⟩⟩
  · unfold wp_J1_putVal_b244
    refine ⟨a, rfl, ?_⟩
    rintro h1 rfl
    obtain ⟨M, S, P⟩ := k.val ha kv
    have ea : acc (wR h 2 a (some v)) m O a = acc h m O a := rfl
    refine s_put250 M ha (fun h' c M' S' P' => ?_)
    rw [ea] at M' S'
    refine fin h' M' (S.trans S') (fun x hx => ?_) (bud _ h' c rfl rfl (fun _ => rfl))
    rw [P' x hx, P x hx]
    by_cases e : x = a
    · rw [if_pos e, if_pos ⟨e, q⟩]
    · rw [if_neg e, if_neg (fun w => e w.1)]
  · obtain ⟨b, hb, -⟩ := (kb.ok a ha).2
    rw [w] at hb; cases hb
  · refine s_put250 k ha (fun h' c M' S' P' => fin h' M' S' (fun x hx => ?_) (bud h h' c rfl rfl (fun _ => rfl)))
    rw [P' x hx, if_neg (fun w => q w.2)]
theorem s_afterIns {h : Hp} {m : Nat} {l5 : Int32} {K : Option Nat → Hp → Prop} (hm0 : kd h m = 2 ∨ kd h m = 3) (fin : K none h) : wp_J1_putVal_b292 K h (some m) l5 := by
  unfold wp_J1_putVal_b292
  rcases hm0 with w | w
  · left
    refine ⟨m, rfl, w, ?_⟩
    unfold wp_J1_afterNodeInsertion wp_J1_putVal_b298
    exact fun _ => fin
  · right
    refine ⟨m, rfl, w, ?_⟩
    unfold wp_J2_afterNodeInsertion wp_J2_afterNodeInsertion_b39 wp_J2_removeEldestEntry wp_J1_putVal_b298
    exact ⟨fun _ _ => fin, fun _ => ⟨m, rfl, fun _ _ => fin, fun a _ _ => ⟨fun _ _ => fin, fun q => absurd rfl q⟩⟩⟩
/-- what a step does to the pairs -/
theorem s_put259 {h : Hp} {m n C Q : Nat} {bn : Nat → List Nat} {O : List Nat} {l5 : Int32} {K : Option Nat → Hp → Prop} (k : MB h m n bn O) (hn0 : 0 < n) (e15 : it h 15 m + 1 = nI O.length) (k3 : kd h m = 3 → it h 22 m = 0 ∧ (it h 21 m = 0 ∨ it h 21 m = 1)) (hl : O.length ≤ 1464) (B : Bud h n O C Q)
    (fin : ∀ h' n' O', MI h' m n' O' → Mst h h' m O O' → O'.map (pr h') = O.map (pr h) → Bud h' n' O' C Q → K none h') : wp_J1_putVal_b259 K h (some m) l5 := by
  unfold wp_J1_putVal_b259
  refine ⟨m, rfl, ?_⟩
  rintro h1 rfl h2 rfl
  have m0 : kd h m ≠ 0 := by rcases k.1 with w | w <;> rw [w] <;> decide
  have c2 : Chg (PO m O) h (wI (wI h 16 m (it h 16 m + 1)) 15 m (it (wI h 16 m (it h 16 m + 1)) 15 m + 1)) := ((Chg.refl _ h).wI _ (Or.inl ⟨rfl, by omega⟩)).wI _ (Or.inl ⟨rfl, by omega⟩)
  have e1 : it (wI h 16 m (it h 16 m + 1)) 15 m + 1 = nI O.length := by rw [it_wI, if_neg (by omega)]; exact e15
  have f15 : it (wI (wI h 16 m (it h 16 m + 1)) 15 m (it (wI h 16 m (it h 16 m + 1)) 15 m + 1)) 15 m = nI O.length := by rw [it_wI, if_pos ⟨rfl, rfl⟩]; exact e1
  rw [e1] at c2 f15 ⊢
  have R2 : ∀ f b, rf (wI (wI h 16 m (it h 16 m + 1)) 15 m (nI O.length)) f b = rf h f b := fun _ _ => rfl
  generalize wI (wI h 16 m (it h 16 m + 1)) 15 m (nI O.length) = h2 at c2 f15 R2
  have M2 := k.ord c2 (List.Perm.refl O) (fun w => ?_)
  · have S2 := c2.mst (List.Perm.refl O) k.mO
    have g : ∀ f b, f ≠ 15 → f ≠ 16 → f ≠ 19 → f ≠ 20 → f ≠ 4 → f ≠ 5 → rf h2 f b = rf h f b ∧ it h2 f b = it h f b := fun f b _ _ _ _ _ _ => ⟨c2.rf (fun q => by have := q.fl; omega), c2.it (fun q => by have := q.fl; omega)⟩
    have P2 : ∀ x ∈ O, pr h2 x = pr h x := fun x hx => pr_fra (k.ok x hx) (c2.int (fun x q => by have := q.fl; omega)) (g 1 x (by omega) (by omega) (by omega) (by omega) (by omega) (by omega)).1 (g 2 x (by omega) (by omega) (by omega) (by omega) (by omega) (by omega)).1
    have K3 : kd h2 m = 3 → it h2 22 m = 0 ∧ (it h2 21 m = 0 ∨ it h2 21 m = 1) := by
      rw [c2.1, (g 22 m (by omega) (by omega) (by omega) (by omega) (by omega) (by omega)).2, (g 21 m (by omega) (by omega) (by omega) (by omega) (by omega) (by omega)).2]; exact k3
    have B2 : Bud h2 n O C Q := by
      unfold Bud at B ⊢
      rw [c2.2.2.1, c2.2.2.2.1, lc_frame (fun x _ => c2.1 x)]
      exact B
    have mp2 : O.map (pr h2) = O.map (pr h) := List.map_congr_left P2
    refine ⟨fun _ => s_afterIns M2.1 (fin h2 n O ⟨⟨bn, M2⟩, f15, K3⟩ S2 mp2 B2), fun q => ?_⟩
    have hn : n ≤ 1024 := by
      rcases M2.2.2.2.2.2.2.2 with w | w
      · omega
      · rcases M2.2.2.2.2.1 with z | ⟨e, t, z1, z2, z3, z4⟩
        · omega
        · have p11 : 2 ^ e ≤ 2 ^ 11 := Nat.pow_le_pow_right (by decide) z1
          rw [w.2, nI_leI (by omega) (by omega)] at q
          rcases Nat.lt_or_ge 10 e with y | y
          · have : e = 11 := by omega
            subst this
            omega
          · have := Nat.pow_le_pow_right (n := 2) (by decide) y
            omega
    refine s_resizeB M2 hn hl B2 (fun h' s n' bn' t M E r r0 p0 p1 z1 z2 z3 B' _ => ?_)
    unfold wp_J1_putVal_b291
    have m02 : kd h2 m ≠ 0 := by rw [c2.1]; exact m0
    have mt : rf h2 13 m ≠ some m := fun w => by
      have := M2.tabk w
      rcases M2.1 with y | y <;> omega
    have SM : Mst h2 h' m O (O.map s) := E.mst (fun t' ht' => ?_) m02 M2.mO mt
    · have g1 : ∀ f, f = 15 ∨ f = 21 ∨ f = 22 → it h' f m = it h2 f m := fun f hf => (E.keep m02 (by omega) (fun q => by
        rcases q with q | q | q
        · omega
        · exact M2.mO q.1
        · exact mt q.1)).2
      refine s_afterIns M.1 (fin h' n' (O.map s) ⟨⟨bn', M⟩, ?_, ?_⟩ (S2.trans SM) ?_ B')
      · rw [g1 15 (by omega), f15, List.length_map]
      · rw [(E.1.1 m m02).1, g1 21 (by omega), g1 22 (by omega)]; exact K3
      · rw [(E.prs (E.int (fun x q => by have := q.fl; omega)) M2.ok).1, mp2]
    · rw [r] at ht'
      cases ht'
      exact Or.inr r0
  · exact (k.2.2.2.2.2.1 w).fra (R2 19 m) (R2 20 m) (fun a _ => R2 5 a) (fun a _ => R2 4 a)

/-- a new node of a list -/
theorem newL {h : Hp} {m n : Nat} {bn : Nat → List Nat} {O : List Nat} {z : Int32} {c v : Nat} {G : Option Nat → Hp → Prop} (k : MB h m n bn O) (k3 : kd h m = 3 → it h 22 m = 0) (hR : Rm h 1 6) (go : ∀ a h1, NewN h h1 m O a (lkOf h m) z (some c) (some v) none → (kd h m = 3 → DL h1 m (O ++ [a])) → ns h1 ≤ ns h + 6 → G (some a) h1) :
    (∃ a289, some m = some a289 ∧ (kd h a289 = 2 ∧ (wp_J1_newNode h (some m) z (some c) (some v) none (fun r292 h293 => Ex h h293 → G r292 h293)))) ∨ (∃ a296, some m = some a296 ∧ (kd h a296 = 3 ∧ (wp_J2_newNode h (some m) z (some c) (some v) none (fun r299 h300 => Ex h h300 → G r299 h300)))) := by
  have m0 : kd h m ≠ 0 := by rcases k.1 with w | w <;> rw [w] <;> decide
  have hO0 : ∀ x ∈ O, kd h x ≠ 0 := fun x hx => by have := k.2.2.2.1 x hx; omega
  rcases k.1 with w | w
  · left
    refine ⟨m, rfl, w, s_J1_newNode (O := O) (by unfold Rm at hR ⊢; omega) (fun a h1 N _ => go a h1 (by unfold lkOf; rw [if_pos w]; exact N) (fun q => by omega) ?_)⟩
    rw [N.2.2.2.2.1]
    exact Nat.add_le_add_left (by decide) _
  · right
    refine ⟨m, rfl, w, s_J2_newNode hR m0 hO0 k.mO k.2.1 (k3 w) (k.2.2.2.2.2.1 w) (fun a h1 N D _ => go a h1 (by unfold lkOf; rw [if_neg (by omega)]; exact N) (fun _ => D) ?_)⟩
    rw [N.2.2.2.2.1]
    exact Nat.add_le_add_left (by decide) _
/-- the list L gets a new node at its end -/
theorem bin_push {h h' : Hp} {m t n i lk a : Nat} {O L : List Nat} {z : Int32} {c v : Nat} (b : Bin h lk n i L) (hk : ∀ x ∈ L, kd h x = lk) (E : InsN (PH L t i) h h' m O a z (some c) (some v)) (hz : z = spr (it h 23 c)) (kc : kd h c = 4 ∨ kd h c = 60) (kv : kd h v = 4 ∨ kd h v = 60) (hzi : ix n z = i) (lk0 : lk ≠ 0) (ka : kd h' a = lk) (ne : ∀ x ∈ L, it h 0 x ≠ z) (nx : NXs h' 3 (L ++ [a]) none) : Bin h' lk n i (L ++ [a]) := by
  have I := E.int PH.no
  have L0 : ∀ x ∈ L, kd h x ≠ 0 := fun x hx => by rw [hk x hx]; exact lk0
  have keep : ∀ x ∈ L, ∀ f, f < 3 → rf h' f x = rf h f x ∧ it h' f x = it h f x := fun x hx f hf => E.keep (L0 x hx) (by omega) (fun q => by have := q.fl; omega)
  obtain ⟨-, -, -, ⟨y1, y2, y3⟩, -⟩ := id E
  refine ⟨fun x hx => ?_, ?_, nx, Or.inl (fun x hx => ?_)⟩
  · rcases List.mem_append.mp hx with w | w
    · exact ⟨(b.1 x w).1.fra I (keep x w 0 (by omega)).2 (keep x w 1 (by omega)).1 (keep x w 2 (by omega)).1, by rw [(keep x w 0 (by omega)).2]; exact (b.1 x w).2⟩
    · rw [List.mem_singleton.mp w]
      exact ⟨⟨⟨c, y2, by rw [(I c kc).1]; exact kc, by rw [y1, (I c kc).2]; exact hz⟩, ⟨v, y3, by rw [(I v kv).1]; exact kv⟩⟩, by rw [y1]; exact hzi⟩
  · unfold HD
    rw [List.pairwise_append]
    refine ⟨b.2.1.fra (fun x hx => (keep x hx 0 (by omega)).2), List.pairwise_singleton _ _, fun x hx y hy => ?_⟩
    rw [List.mem_singleton.mp hy, y1, (keep x hx 0 (by omega)).2]
    exact ne x hx
  · rcases List.mem_append.mp hx with w | w
    · rw [(E.1.1 x (L0 x w)).1]; exact hk x w
    · rw [List.mem_singleton.mp w]; exact ka
