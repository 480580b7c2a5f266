/-! RESIZE, one bin -/
set_option maxRecDepth 100000
def linkH (h : Hp) (A : List Nat) (a : Nat) : Hp := match A.getLast? with
  | none => h
  | some z => wR h 3 z (some a)
theorem linkH_facts (h : Hp) (A : List Nat) (a : Nat) : (∀ z, A.getLast? = some z → rf (linkH h A a) 3 z = some a) ∧ (∀ f b, (f = 3 → A.getLast? ≠ some b) → rf (linkH h A a) f b = rf h f b) ∧ (∀ f b, it (linkH h A a) f b = it h f b) ∧ Chg (fun f b => b ∈ A ∧ f = 3) h (linkH h A a) := by
  unfold linkH
  cases e : A.getLast? with
  | none => exact ⟨(fun z hz => by cases hz), fun _ _ _ => rfl, fun _ _ => rfl, Chg.refl _ h⟩
  | some z =>
    refine ⟨(fun z' hz => by cases hz; simp [rf_wR]), fun f b hf => ?_, fun f b => rfl, (Chg.refl _ h).wR _ ⟨mem_last e, rfl⟩⟩
    show rf (wR h 3 z (some a)) f b = _
    rw [rf_wR, if_neg (fun (w : f = 3 ∧ b = z) => hf w.1 (by rw [w.2]))]
theorem linkH_chain {h : Hp} {A : List Nat} {a : Nat} (haA : a ∉ A) (nd : A.Nodup) (hn : ∃ e, NXs h 3 A e) : ∃ e, NXs (linkH h A a) 3 (A ++ [a]) e := by
  obtain ⟨f1, f2, f3, f4⟩ := linkH_facts h A a
  obtain ⟨e, hn⟩ := hn
  refine ⟨rf (linkH h A a) 3 a, (NXs_app _ 3 _ A [a]).mpr ⟨NXs_re hn nd f1 (fun b hb q => f2 3 b (fun _ => q)), rfl, trivial⟩⟩
def endH (h : Hp) (A : List Nat) (t j : Nat) : Hp := match A.getLast? with
  | none => h
  | some z => wR (wR h 3 z none) (100 + j) t A.head?
theorem endH_facts (h : Hp) (A : List Nat) (t j : Nat) : (∀ z, A.getLast? = some z → rf (endH h A t j) 3 z = none ∧ rf (endH h A t j) (100 + j) t = A.head?) ∧ (A = [] → endH h A t j = h) ∧ (∀ f b, (f = 3 → b ∉ A) → ¬ (b = t ∧ f = 100 + j) → rf (endH h A t j) f b = rf h f b) ∧ (∀ b, A.getLast? ≠ some b → rf (endH h A t j) 3 b = rf h 3 b) ∧ (∀ f b, it (endH h A t j) f b = it h f b) ∧ Chg (fun f b => (b ∈ A ∧ f = 3) ∨ (b = t ∧ f = 100 + j)) h (endH h A t j) := by
  unfold endH
  cases e : A.getLast? with
  | none => exact ⟨(fun z hz => by cases hz), fun _ => rfl, fun _ _ _ _ => rfl, fun _ _ => rfl, fun _ _ => rfl, Chg.refl _ h⟩
  | some z =>
    have zA := mem_last e
    refine ⟨(fun z' hz => by cases hz; exact ⟨by rw [rf_wR, if_neg (by omega), rf_wR, if_pos ⟨rfl, rfl⟩], by rw [rf_wR, if_pos ⟨rfl, rfl⟩]⟩), (fun w => by rw [w] at zA; cases zA), fun f b h1 h2 => ?_, fun b h1 => ?_, fun f b => rfl, ((Chg.refl _ h).wR _ (Or.inl ⟨zA, rfl⟩)).wR _ (Or.inr ⟨rfl, rfl⟩)⟩
    · show rf (wR (wR h 3 z none) (100 + j) t A.head?) f b = _
      rw [rf_wR, if_neg (fun (w : f = 100 + j ∧ b = t) => h2 ⟨w.2, w.1⟩), rf_wR, if_neg (fun (w : f = 3 ∧ b = z) => h1 w.1 (by rw [w.2]; exact zA))]
    · show rf (wR (wR h 3 z none) (100 + j) t A.head?) 3 b = _
      rw [rf_wR, if_neg (by omega), rf_wR, if_neg (fun (w : 3 = 3 ∧ b = z) => h1 (by rw [w.2]))]
theorem endH_head {h : Hp} {A : List Nat} {t j : Nat} (r : rf h (100 + j) t = none) : rf (endH h A t j) (100 + j) t = A.head? := by
  cases e : A.getLast? with
  | none =>
    have : A = [] := by simpa using e
    rw [(endH_facts h A t j).2.1 this, this]; exact r
  | some z => exact ((endH_facts h A t j).1 z e).2
theorem endH_chain {h : Hp} {A : List Nat} {t j : Nat} (nd : A.Nodup) (hn : ∃ e, NXs h 3 A e) : NXs (endH h A t j) 3 A none := by
  obtain ⟨f1, f2, f3, f4, f5, f6⟩ := endH_facts h A t j
  obtain ⟨e, hn⟩ := hn
  exact NXs_re hn nd (fun z hz => (f1 z hz).1) (fun b hb q => f4 b q)
theorem rs_loop {h0 : Hp} {L : List Nat} {G : Hp → Option Nat → Option Nat → Int32 → Int32 → Option Nat → Int32 → Prop} {K : Option Nat → Hp → Prop} {l0 l1 l6 : Option Nat} {l2 l4 l7 : Int32} (nd : L.Nodup) (fin : ∀ h, Chg (fun f a => a ∈ L ∧ f = 3) h0 h → (∃ e, NXs h 3 (L.filter (lowB h0 l2)) e) → (∃ e, NXs h 3 (L.filter (fun a => !lowB h0 l2 a)) e) →
      (((L.filter (lowB h0 l2)).getLast? = none → (wp_J1_resize_b327 G K h l0 l1 l2 l4 l6 l7 (L.filter (fun a => !lowB h0 l2 a)).head? (L.filter (fun a => !lowB h0 l2 a)).getLast?)) ∧ (∀ a198, (L.filter (lowB h0 l2)).getLast? = some a198 → (∀ h199, h199 = wR h 3 a198 none → (∃ a200, l6 = some a200 ∧ (∃ j202, l7 = nI j202 ∧ j202 < ln h199 a200 ∧ ∀ h205, h205 = wR h199 (100 + j202) a200 (L.filter (lowB h0 l2)).head? → (wp_J1_resize_b327 G K h205 l0 l1 l2 l4 l6 l7 (L.filter (fun a => !lowB h0 l2 a)).head? (L.filter (fun a => !lowB h0 l2 a)).getLast?))))))) :
    ∀ (R : List Nat) (a : Nat) (P : List Nat) (h : Hp) (n : Nat), L = P ++ a :: R → R.length + 1 ≤ n → Chg (fun f a => a ∈ L ∧ f = 3) h0 h → NXs h 3 (a :: R) none → (∃ e, NXs h 3 (P.filter (lowB h0 l2)) e) → (∃ e, NXs h 3 (P.filter (fun a => !lowB h0 l2 a)) e) →
      wp_J1_resize_b235 G K n h l0 l1 l2 l4 l6 l7 (some a) (P.filter (lowB h0 l2)).head? (P.filter (lowB h0 l2)).getLast? (P.filter (fun a => !lowB h0 l2 a)).head? (P.filter (fun a => !lowB h0 l2 a)).getLast?
  | R, a, P, h, 0, _, hn, _, _, _, _ => by omega
  | R, a, P, h, n + 1, e, hn, c, hR, a1, b1 => by
    have aL : a ∈ L := by rw [e]; simp
    have ndL := nd
    rw [e] at ndL
    have nd' := List.nodup_append.mp ndL
    have aP : a ∉ P := fun q => nd'.2.2 a q a List.mem_cons_self rfl
    have RP : ∀ b ∈ R, b ∉ P := fun b hb q => nd'.2.2 b q b (List.mem_cons_of_mem _ hb) rfl
    have sA : ∀ b ∈ P.filter (lowB h0 l2), b ∈ P := fun b hb => (List.mem_filter.mp hb).1
    have sB : ∀ b ∈ P.filter (fun a => !lowB h0 l2 a), b ∈ P := fun b hb => (List.mem_filter.mp hb).1
    have ndP := nd'.1
    have e3 : rf h 3 a = R.head? := by have := hR.1; simpa using this
    have e0 : it h 0 a = it h0 0 a := c.it (fun q => by omega)
    have PL : ∀ b ∈ P, b ∈ L := fun b hb => by rw [e]; exact List.mem_append_left _ hb
    have dis : ∀ b ∈ P.filter (lowB h0 l2), b ∉ P.filter (fun a => !lowB h0 l2 a) := fun b hb w => by
      have := (List.mem_filter.mp hb).2
      have w := (List.mem_filter.mp w).2
      simp [this] at w
    -- what follows once a has been hung at its half
    have go : ∀ h', Chg (fun f a => a ∈ L ∧ f = 3) h0 h' → (∀ b, b ∉ P → rf h' 3 b = rf h 3 b) → (∃ e, NXs h' 3 ((P ++ [a]).filter (lowB h0 l2)) e) → (∃ e, NXs h' 3 ((P ++ [a]).filter (fun a => !lowB h0 l2 a)) e) →
        wp_J1_resize_b301 G (wp_J1_resize_b235 G K n) K h' l0 l1 l2 l4 l6 l7 ((P ++ [a]).filter (lowB h0 l2)).head? ((P ++ [a]).filter (lowB h0 l2)).getLast? ((P ++ [a]).filter (fun a => !lowB h0 l2 a)).head? ((P ++ [a]).filter (fun a => !lowB h0 l2 a)).getLast? R.head? := by
      intro h' c' hs x1 x2
      unfold wp_J1_resize_b301
      cases R with
      | nil =>
        rw [← e] at x1 x2 ⊢
        exact ⟨fun _ => fin h' c' x1 x2, (fun a q => by cases q)⟩
      | cons b R =>
        refine ⟨(fun q => by cases q), fun b' q => ?_⟩
        exact rs_loop nd fin R b (P ++ [a]) h' n (by rw [e]; simp) (by simpa using hn) c' (NXs_fr (fun y hy => hs y (RP y hy)) hR.2) x1 x2
    unfold wp_J1_resize_b235
    refine ⟨a, rfl, fun q => ?_, fun q => ?_⟩
    · have lb : lowB h0 l2 a = false := by unfold lowB; rw [← e0]; exact decide_eq_false q
      have f1 : (P ++ [a]).filter (lowB h0 l2) = P.filter (lowB h0 l2) := by rw [List.filter_append]; simp [lb]
      have f2 : (P ++ [a]).filter (fun a => !lowB h0 l2 a) = P.filter (fun a => !lowB h0 l2 a) ++ [a] := by rw [List.filter_append]; simp [lb]
      have aB : a ∉ P.filter (fun a => !lowB h0 l2 a) := fun w => aP (sB a w)
      obtain ⟨g1, g2, g3, g4⟩ := linkH_facts h (P.filter (fun a => !lowB h0 l2 a)) a
      have key := go (linkH h (P.filter (fun a => !lowB h0 l2 a)) a) (c.trans (g4.mono (fun f b w => ⟨PL b (sB b w.1), w.2⟩))) (fun b hb => g2 3 b (fun _ w => hb (sB b (mem_last w)))) (by
        rw [f1]
        obtain ⟨e, a1⟩ := a1
        exact ⟨e, NXs_fr (fun b hb => g2 3 b (fun _ w => dis b hb (mem_last w))) a1⟩) (by rw [f2]; exact linkH_chain aB (ndP.filter _) b1)
      rw [f1, f2, head_push, List.getLast?_append] at key
      rw [e3]
      unfold linkH at key
      unfold wp_J1_resize_b297
      refine ⟨fun z => ?_, fun z hz => ?_⟩
      · rw [z] at key; exact key
      · rintro h3 rfl
        rw [hz] at key; exact key
    · have lb : lowB h0 l2 a = true := by unfold lowB; rw [← e0]; exact decide_eq_true q
      have f1 : (P ++ [a]).filter (lowB h0 l2) = P.filter (lowB h0 l2) ++ [a] := by rw [List.filter_append]; simp [lb]
      have f2 : (P ++ [a]).filter (fun a => !lowB h0 l2 a) = P.filter (fun a => !lowB h0 l2 a) := by rw [List.filter_append]; simp [lb]
      have aB : a ∉ P.filter (lowB h0 l2) := fun w => aP (sA a w)
      obtain ⟨g1, g2, g3, g4⟩ := linkH_facts h (P.filter (lowB h0 l2)) a
      have key := go (linkH h (P.filter (lowB h0 l2)) a) (c.trans (g4.mono (fun f b w => ⟨PL b (sA b w.1), w.2⟩))) (fun b hb => g2 3 b (fun _ w => hb (sA b (mem_last w)))) (by rw [f1]; exact linkH_chain aB (ndP.filter _) a1) (by
        rw [f2]
        obtain ⟨e, b1⟩ := b1
        exact ⟨e, NXs_fr (fun b hb => g2 3 b (fun _ w => dis b (mem_last w) hb)) b1⟩)
      rw [f1, f2, head_push, List.getLast?_append] at key
      rw [e3]
      unfold linkH at key
      unfold wp_J1_resize_b271
      refine ⟨fun z => ?_, fun z hz => ?_⟩
      · rw [z] at key; exact key
      · rintro h3 rfl
        rw [hz] at key; exact key
/-- a bin goes over into the new table t -/
theorem rs_bin {h0 : Hp} {m t t0 e i lk a : Nat} {O L : List Nat} {G : Hp → Option Nat → Option Nat → Int32 → Int32 → Option Nat → Int32 → Prop} {K : Option Nat → Hp → Prop} (he : e ≤ 20) (hm0 : kd h0 m = 2 ∨ kd h0 m = 3) (hlk : lk = if kd h0 m = 2 then 5 else 6) (hOk : ∀ b ∈ O, kd h0 b ≠ 0) (nd : O.Nodup) (mO : m ∉ O) (dl : kd h0 m = 3 → DL h0 m O) (hL : ∀ a ∈ L, a ∈ O) (hb : Bin h0 lk (2 ^ e) i L) (ha : L.head? = some a) (ht : kd h0 t = 51) (hN : ln h0 t = 2 ^ e * 2) (hi : i < 2 ^ e) (hR : Rm h0 L.length (L.length * 6)) (r1 : rf h0 (100 + i) t = none) (r2 : rf h0 (100 + (i + 2 ^ e)) t = none)
    (fin : ∀ h' s lo hi, Evo (PS L t i (i + 2 ^ e)) h0 h' m O s → (∀ x, x ∉ L → s x = x) → (lo ++ hi).Perm (L.map s) → rf h' (100 + i) t = lo.head? → rf h' (100 + (i + 2 ^ e)) t = hi.head? → Bin h' lk (2 ^ e * 2) i lo → Bin h' lk (2 ^ e * 2) (i + 2 ^ e) hi → nc h' ≤ nc h0 + L.length → ns h' ≤ ns h0 + L.length * 6 → wp_J1_resize_b347 G K h' (some m) (some t0) (nI (2 ^ e)) (nI (2 ^ e * 2)) (some t) (nI i)) :
    (((rf h0 3 a) = none → (∃ a234, some t = some a234 ∧ (∃ j236, ((it h0 0 a) &&& (nI (2 ^ e * 2) - 1)) = nI j236 ∧ j236 < ln h0 a234 ∧ ∀ h239, h239 = wR h0 (100 + j236) a234 (some a) → (wp_J1_resize_b347 G K h239 (some m) (some t0) (nI (2 ^ e)) (nI (2 ^ e * 2)) (some t) (nI i))))) ∧ (∀ a233, (rf h0 3 a) = some a233 → ((kd h0 a ∈ [7] → ((∀ b, some a = some b → kd h0 b ∈ [7]) ∧ (wp_J8_split h0 (some a) (some m) (some t) (nI i) (nI (2 ^ e)) (fun h246 => Ex h0 h246 → (wp_J1_resize_b347 G K h246 (some m) (some t0) (nI (2 ^ e)) (nI (2 ^ e * 2)) (some t) (nI i)))))) ∧ (kd h0 a ∈ [5, 6] → (∃ n, wp_J1_resize_b235 G K n h0 (some m) (some t0) (nI (2 ^ e)) (nI (2 ^ e * 2)) (some t) (nI i) (some a) none none none none))))) := by
  have p20 : 2 ^ e ≤ 2 ^ 20 := Nat.pow_le_pow_right (by decide) he
  have p0 : 0 < 2 ^ e := Nat.pow_pos (by decide)
  obtain ⟨hok, hd, hnx, hkind⟩ := hb
  have aL : a ∈ L := List.mem_of_mem_head? ha
  have tL : t ∉ L := fun q => by
    rcases hkind with w | w
    · have := w t q; rw [hlk] at this; split at this <;> omega
    · have := w.1 t q; omega
  refine ⟨fun q => ?_, fun b hb => ⟨fun q => ?_, fun q => ?_⟩⟩
  · -- one node alone
    have hLa : L = [a] := by
      cases L with
      | nil => cases ha
      | cons x X =>
        cases ha
        have := hnx.1
        rw [q] at this
        cases X with
        | nil => rfl
        | cons y Y => cases this
    obtain ⟨x1, x2⟩ := ix_ok (n := 2 ^ e * 2) (it h0 0 a) (by omega) (by omega)
    refine ⟨t, rfl, ix (2 ^ e * 2) (it h0 0 a), by rw [Int32.and_comm]; exact x1, by rw [hN]; exact x2, ?_⟩
    have hv := ix_double he (it h0 0 a)
    rw [(hok a aL).2] at hv
    generalize hj : ix (2 ^ e * 2) (it h0 0 a) = j at hv x1 x2
    have hj2 : j = i ∨ j = i + 2 ^ e := by rw [hv]; split <;> omega
    rintro h1 rfl
    have C1 : Chg (PS L t i (i + 2 ^ e)) h0 (wR h0 (100 + j) t (some a)) := (Chg.refl _ h0).wR _ (Or.inr ⟨rfl, by omega⟩)
    have g : ∀ f b, f < 100 → rf (wR h0 (100 + j) t (some a)) f b = rf h0 f b := fun f b hf => by rw [rf_wR, if_neg (by omega)]
    have E1 := C1.evo (m := m) nd hOk (fun f x q => q.fl)
    have B1 : Bin (wR h0 (100 + j) t (some a)) lk (2 ^ e * 2) j L := by
      refine ⟨fun b hb => ⟨(hok b hb).1.fra (C1.int (fun x q => by have := q.fl; omega)) rfl (g 1 b (by omega)) (g 2 b (by omega)), ?_⟩, hd, NXs_fr (fun b _ => g 3 b (by omega)) hnx, ?_⟩
      · rw [hLa] at hb; rw [List.mem_singleton.mp hb]; exact hj
      · rcases hkind with w | ⟨w1, w2, r, S, sub, w3, w4, w5⟩
        · exact Or.inl w
        · exact Or.inr ⟨w1, PVs_fr (fun b _ => g 9 b (by omega)) w2, r, S, sub, w3.same (fun b _ => ⟨g 6 b (by omega), g 7 b (by omega), g 8 b (by omega)⟩), w4, w5⟩
    rcases hj2 with q1 | q1
    · subst q1
      refine fin _ id L [] E1 (fun _ _ => rfl) (by simp) (by rw [rf_wR, if_pos ⟨rfl, rfl⟩, ha]) (by rw [rf_wR, if_neg (by omega), r2]; rfl) B1 (Bin.nil _ _ _ _) (Nat.le_add_right _ _) (Nat.le_add_right _ _)
    · subst q1
      refine fin _ id [] L E1 (fun _ _ => rfl) (by simp) (by rw [rf_wR, if_neg (by omega), r1]; rfl) (by rw [rf_wR, if_pos ⟨rfl, rfl⟩, ha]) (Bin.nil _ _ _ _) B1 (Nat.le_add_right _ _) (Nat.le_add_right _ _)
  · have k7 : kd h0 a = 7 := by simpa using q
    rcases hkind with w | ⟨w1, w2, w3⟩
    · have := w a aL
      rw [hlk] at this; split at this <;> omega
    · refine ⟨(fun b hb => by cases hb; exact q), ?_⟩
      rw [← ha]
      exact s_split he hm0 hlk hOk nd mO dl hL hok hd hnx w1 w3 ht hN hi hR r1 r2 (fun h' s lo hi e1 e2 e3 e4 e5 e6 e7 e8 e9 _ => fin h' s lo hi e1 e2 e3 e4 e5 e6 e7 e8 e9)
  · have k56 : kd h0 a = 5 ∨ kd h0 a = 6 := by simpa using q
    rcases hkind with w | ⟨w1, w2, w3⟩
    · obtain ⟨R, hLR⟩ : ∃ R, L = a :: R := by
        cases L with
        | nil => cases ha
        | cons x X => cases ha; exact ⟨X, rfl⟩
      have nx0 := hnx
      rw [hLR] at nx0
      refine ⟨R.length + 1, rs_loop (h0 := h0) (L := L) hd.nd (fun h c x1 x2 => ?_) R a [] h0 _ hLR (Nat.le_refl _) (Chg.refl _ h0) nx0 ⟨none, trivial⟩ ⟨none, trivial⟩⟩
      generalize hA : L.filter (lowB h0 (nI (2 ^ e))) = A at x1 ⊢
      generalize hB : L.filter (fun a => !lowB h0 (nI (2 ^ e)) a) = B at x2 ⊢
      have pAB : (A ++ B).Perm L := by rw [← hA, ← hB]; exact List.filter_append_perm _ _
      have AL : ∀ a ∈ A, a ∈ L := fun a ha => pAB.mem_iff.mp (List.mem_append_left _ ha)
      have BL : ∀ a ∈ B, a ∈ L := fun a ha => pAB.mem_iff.mp (List.mem_append_right _ ha)
      have ndAB := (pAB.nodup_iff.mpr hd.nd)
      have AB : ∀ a ∈ A, a ∉ B := fun a ha hb => (List.nodup_append.mp ndAB).2.2 a ha a hb rfl
      have slA : A.Sublist L := by rw [← hA]; exact List.filter_sublist
      have slB : B.Sublist L := by rw [← hB]; exact List.filter_sublist
      obtain ⟨u1, u2, u3, u4, u5, u6⟩ := endH_facts h A t i
      obtain ⟨v1, v2, v3, v4, v5, v6⟩ := endH_facts (endH h A t i) B t (i + 2 ^ e)
      have CC : Chg (PS L t i (i + 2 ^ e)) h0 (endH (endH h A t i) B t (i + 2 ^ e)) := by
        refine ((c.mono (fun f b q => Or.inl ⟨q.1, Or.inl q.2⟩)).trans (u6.mono (fun f b q => ?_))).trans (v6.mono (fun f b q => ?_))
        · rcases q with q | q
          · exact Or.inl ⟨AL b q.1, Or.inl q.2⟩
          · exact Or.inr ⟨q.1, Or.inl q.2⟩
        · rcases q with q | q
          · exact Or.inl ⟨BL b q.1, Or.inl q.2⟩
          · exact Or.inr ⟨q.1, Or.inr q.2⟩
      have I := CC.int (fun x q => by have := q.fl; omega)
      have tt : ∀ f, f ≠ 3 → rf h f t = rf h0 f t := fun f hf => c.rf (fun q => hf q.2)
      have lnt : ∀ j, j < 2 ^ e * 2 → j < ln h t := fun j hj => by rw [c.2.1, hN]; exact hj
      have keep : ∀ a ∈ L, ∀ f, f < 3 → rf (endH (endH h A t i) B t (i + 2 ^ e)) f a = rf h0 f a ∧ it (endH (endH h A t i) B t (i + 2 ^ e)) f a = it h0 f a := fun a ha f hf => ⟨CC.rf (fun q => by have := q.fl; omega), CC.it (fun q => by have := q.fl; omega)⟩
      have key : wp_J1_resize_b347 G K (endH (endH h A t i) B t (i + 2 ^ e)) (some m) (some t0) (nI (2 ^ e)) (nI (2 ^ e * 2)) (some t) (nI i) := by
        refine fin _ id A B (CC.evo nd hOk (fun f x q => q.fl)) (fun _ _ => rfl) (by simpa using pAB) ?_ ?_ ⟨fun b hb => ?_, ?_, ?_, Or.inl (fun b hb => ?_)⟩ ⟨fun b hb => ?_, ?_, ?_, Or.inl (fun b hb => ?_)⟩ (by rw [CC.2.2.1]; omega) (by rw [CC.2.2.2.1]; omega)
        · rw [v3 (100 + i) t (by omega) (by omega)]
          exact endH_head (by rw [tt _ (by omega)]; exact r1)
        · exact endH_head (by rw [u3 _ t (by omega) (by omega), tt _ (by omega)]; exact r2)
        · have bL := AL b hb
          refine ⟨(hok b bL).1.fra I (keep b bL 0 (by omega)).2 (keep b bL 1 (by omega)).1 (keep b bL 2 (by omega)).1, ?_⟩
          rw [(keep b bL 0 (by omega)).2, ix_double he, (hok b bL).2]
          rw [← hA] at hb
          rw [if_pos (of_decide_eq_true (List.mem_filter.mp hb).2)]; rfl
        · exact HD.fra (h := h0) (List.Pairwise.sublist slA hd) (fun b hb => (keep b (AL b hb) 0 (by omega)).2)
        · exact NXs_fr (fun b hb => v3 3 b (fun _ => AB b hb) (by omega)) (endH_chain (List.nodup_append.mp ndAB).1 x1)
        · rw [CC.1]; exact w b (AL b hb)
        · have bL := BL b hb
          refine ⟨(hok b bL).1.fra I (keep b bL 0 (by omega)).2 (keep b bL 1 (by omega)).1 (keep b bL 2 (by omega)).1, ?_⟩
          rw [(keep b bL 0 (by omega)).2, ix_double he, (hok b bL).2]
          rw [← hB] at hb
          have := (List.mem_filter.mp hb).2
          rw [if_neg (fun q => by unfold lowB at this; rw [decide_eq_true q] at this; cases this)]
        · exact HD.fra (h := h0) (List.Pairwise.sublist slB hd) (fun b hb => (keep b (BL b hb) 0 (by omega)).2)
        · obtain ⟨e, x2⟩ := x2
          exact endH_chain (List.nodup_append.mp ndAB).2.1 ⟨e, NXs_fr (fun b hb => u3 3 b (fun _ hA => AB b hA hb) (by omega)) x2⟩
        · rw [CC.1]; exact w b (BL b hb)
      have k327 : wp_J1_resize_b327 G K (endH h A t i) (some m) (some t0) (nI (2 ^ e)) (nI (2 ^ e * 2)) (some t) (nI i) B.head? B.getLast? := by
        unfold wp_J1_resize_b327
        refine ⟨fun z => ?_, fun z hz => ?_⟩
        · rw [v2 (by simpa using z)] at key; exact key
        · rintro h3 rfl
          refine ⟨t, rfl, i + 2 ^ e, by rw [← nI_add], ?_, ?_⟩
          · show _ < ln (endH h A t i) t
            rw [u6.2.1]; exact lnt _ (by omega)
          · rintro h4 rfl
            unfold endH at key
            rw [hz] at key
            unfold endH
            exact key
      refine ⟨fun z => ?_, fun z hz => ?_⟩
      · rw [u2 (by simpa using z)] at k327; exact k327
      · rintro h3 rfl
        refine ⟨t, rfl, i, rfl, ?_, ?_⟩
        · exact lnt _ (by omega)
        · rintro h4 rfl
          unfold endH at k327
          rw [hz] at k327
          exact k327
    · have := w1 a aL; omega
