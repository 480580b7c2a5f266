/-! TREEIFYBIN; the budget -/
set_option maxRecDepth 100000
theorem Tab.upd {h h' : Hp} {lk t n i : Nat} {bn : Nat → List Nat} {L' : List Nat} (T : Tab h lk t n bn) (hlk : lk = 5 ∨ lk = 6) (hi : i < n) (hn : n < 2 ^ 31) (ex : Ex h h') (I : IntS h h') (fr : ∀ b f, 5 ≤ kd h b → kd h b ≤ 7 → b ∉ bn i → f = 1 ∨ f = 2 ∨ f = 3 ∨ f = 6 ∨ f = 7 ∨ f = 8 ∨ f = 9 → rf h' f b = rf h f b ∧ it h' 0 b = it h 0 b) (ft : ∀ j, j < n → j ≠ i → rf h' (100 + j) t = rf h (100 + j) t) (e : rf h' (100 + i) t = L'.head?) (b : Bin h' lk n i L') : Tab h' lk t n (updB bn i L') := by
  obtain ⟨t1, t2, t3⟩ := T
  refine ⟨by rw [(ex.1 t (by omega)).1]; exact t1, by rw [(ex.1 t (by omega)).2]; exact t2, fun j hj => ?_⟩
  by_cases q : j = i
  · subst q
    rw [show updB bn j L' j = L' by unfold updB; rw [if_pos rfl]]
    exact ⟨e, b⟩
  · rw [show updB bn i L' j = bn j by unfold updB; rw [if_neg q]]
    obtain ⟨g1, g2⟩ := t3 j hj
    have off : ∀ a ∈ bn j, a ∉ bn i := fun a ha hb => by
      have e1 := (g2.1 a ha).2
      have e2 := ((t3 i hi).2.1 a hb).2
      omega
    refine ⟨by rw [ft j hj q]; exact g1, g2.fra I (fun a ha => ?_) (fun a ha => ?_) (fun a ha f hf => ?_)⟩
    · have := g2.kd hlk ha
      exact (ex.1 a (by omega)).1
    · have := g2.kd hlk ha
      exact (fr a 1 this.1 this.2 (off a ha) (by omega)).2
    · have := g2.kd hlk ha
      exact (fr a f this.1 this.2 (off a ha) hf).1
theorem lkOf_ok (h : Hp) (m : Nat) : lkOf h m = 5 ∨ lkOf h m = 6 := by unfold lkOf; split <;> omega
theorem MB.set {h h' : Hp} {m n t i : Nat} {bn : Nat → List Nat} {O L' : List Nat} {s : Nat → Nat} (k : MB h m n bn O) (ht : rf h 13 m = some t) (hi : i < n) (E : Evo (PH (bn i) t i) h h' m O s) (sx : ∀ x, x ∉ bn i → s x = x) (p : L'.Perm ((bn i).map s)) (e : rf h' (100 + i) t = L'.head?) (b : Bin h' (lkOf h m) n i L') : MB h' m n (updB bn i L') (O.map s) := by
  obtain ⟨k1, k2, k3, k4, k5, k6, k7, k8⟩ := k
  have m0 : kd h m ≠ 0 := by rcases k1 with w | w <;> rw [w] <;> decide
  have em := (E.1.1 m m0).1
  have el : lkOf h' m = lkOf h m := by unfold lkOf; rw [em]
  rcases k5 with w | ⟨ee, t1, w1, w2, w3, w4⟩
  · omega
  · rw [ht] at w3
    cases w3
    have p11 : 2 ^ ee ≤ 2 ^ 11 := Nat.pow_le_pow_right (by decide) w1
    have lk0 := lkOf_ok h m
    have bi := (w4.2.2 i hi).2
    have mL : m ∉ bn i := fun w => by have := bi.kd lk0 w; omega
    have tL : t ∉ bn i := fun w => by have := bi.kd lk0 w; have := w4.1; omega
    have tm : m ≠ t := fun w => by have := w4.1; rw [← w] at this; omega
    have gm : ∀ f, f = 13 ∨ f = 17 ∨ f = 18 → rf h' f m = rf h f m ∧ it h' f m = it h f m := fun f hf => E.keep m0 (by omega) (fun q => by
      rcases q with q | q
      · exact mL q.1
      · exact tm q.1)
    have T' : Tab h' (lkOf h m) t n (updB bn i L') := w4.upd lk0 hi (by omega) E.1 (E.int PH.no) (fun b f h1 h2 hb hf => by
      have nP : ∀ f, ¬ PH (bn i) t i f b := fun f q => by
        rcases q with q | q
        · exact hb q.1
        · rw [q.1] at h2; have := w4.1; omega
      exact ⟨(E.keep (by omega) (by omega) (nP f)).1, (E.keep (by omega) (by omega) (nP 0)).2⟩) (fun j hj hji => (E.keep (by have := w4.1; omega) (by omega) (fun q => by
      rcases q with q | q
      · exact tL q.1
      · omega)).1) e b
    have pp : (O.map s).Perm (nodes n (updB bn i L')) := by
      refine (k3.map s).trans ?_
      rw [nodes_map]
      refine nodes_perm (fun j hj => ?_)
      unfold updB
      by_cases q : j = i
      · rw [if_pos q, q]; exact p.symm
      · rw [if_neg q]
        have off : ∀ a ∈ bn j, a ∉ bn i := fun a ha hb => by
          have e1 := ((w4.2.2 j hj).2.1 a ha).2
          have e2 := (bi.1 a hb).2
          omega
        rw [List.map_congr_left (g := id) (fun a ha => sx a (off a ha))]
        simp
    refine ⟨by rw [em]; exact k1, E.2.2.1, pp, fun a ha => ?_, Or.inr ⟨ee, t, w1, w2, by rw [(gm 13 (by omega)).1]; exact ht, by rw [el]; exact T'⟩, E.dl m0 k6, by rw [(gm 18 (by omega)).2]; exact k7, ?_⟩
    · obtain ⟨j, hj, ha⟩ := mem_nodes.mp (pp.mem_iff.mp ha)
      exact (T'.2.2 j hj).2.kd lk0 ha
    · unfold TH at k8 ⊢
      rw [(gm 17 (by omega)).2]; exact k8
/-! list nodes cost one tree node each, some day -/
def lc (h : Hp) (O : List Nat) : Nat := (O.filter (fun a => decide (kd h a ≠ 7))).length
def rk (n : Nat) : Nat := if n = 0 then 12 else 11 - Nat.log2 n
def Bud (h : Hp) (n : Nat) (O : List Nat) (c q : Nat) : Prop := nc h + lc h O + 3000 * rk n + c ≤ 679679 ∧ ns h + 11 * lc h O + 40000 * rk n + q ≤ 7063211
theorem lc_le (h : Hp) (O : List Nat) : lc h O ≤ O.length := List.length_filter_le _ _
theorem rk_pow (e : Nat) : rk (2 ^ e) = 11 - e := by
  unfold rk
  rw [if_neg (Nat.ne_of_gt (Nat.pow_pos (by decide))), Nat.log2_two_pow]
theorem Bud.mono {h : Hp} {n : Nat} {O : List Nat} {c q c' q' : Nat} (k : Bud h n O c q) (h1 : c' ≤ c) (h2 : q' ≤ q) : Bud h n O c' q' := by
  unfold Bud at k ⊢; omega
theorem Bud.rm {h : Hp} {n : Nat} {O : List Nat} {c q : Nat} (k : Bud h n O c q) : Rm h c q := by
  unfold Bud at k; unfold Rm; omega
theorem lc_map {h h' : Hp} {O : List Nat} {s : Nat → Nat} (hk : ∀ x ∈ O, (kd h' (s x) = 7 ↔ kd h x = 7)) : lc h' (O.map s) = lc h O := by
  unfold lc
  induction O with
  | nil => rfl
  | cons x O ih =>
    have e : decide (kd h' (s x) ≠ 7) = decide (kd h x ≠ 7) := by
      have := hk x List.mem_cons_self
      by_cases q : kd h x = 7
      · simp [q, this.mpr q]
      · have w : ¬ kd h' (s x) = 7 := fun w => q (this.mp w)
        simp [q, w]
    have ih := ih (fun y hy => hk y (List.mem_cons_of_mem _ hy))
    rw [List.map_cons, List.filter_cons, List.filter_cons, e]
    split
    · rw [List.length_cons, List.length_cons, ih]
    · exact ih
theorem lc_app (h : Hp) (A B : List Nat) : lc h (A ++ B) = lc h A + lc h B := by unfold lc; rw [List.filter_append, List.length_append]
theorem lc_perm {h : Hp} {A B : List Nat} (p : A.Perm B) : lc h A = lc h B := by unfold lc; exact (p.filter _).length_eq
theorem lc_all {h : Hp} {A : List Nat} (hA : ∀ a ∈ A, kd h a ≠ 7) : lc h A = A.length := by
  unfold lc
  rw [List.filter_eq_self.mpr (fun a ha => decide_eq_true (hA a ha))]
theorem lc_none {h : Hp} {A : List Nat} (hA : ∀ a ∈ A, kd h a = 7) : lc h A = 0 := by
  unfold lc
  rw [List.filter_eq_nil_iff.mpr (fun a ha => by simp [hA a ha])]
  rfl
theorem s_resizeB {h : Hp} {m n c q : Nat} {bn : Nat → List Nat} {O : List Nat} {K : Option Nat → Hp → Prop} (k : MB h m n bn O) (hn : n ≤ 1024) (hl : O.length ≤ 1464) (B : Bud h n O c q)
    (fin : ∀ h' s n' bn' t, MB h' m n' bn' (O.map s) → Evo (PZ h m O) h h' m O s → rf h' 13 m = some t → kd h t = 0 → 0 < n' → n' ≤ 2048 → (0 < n → n' = 2 * n) → (n = 0 → it h 17 m = 0 → n' = 16) → (n = 0 → ∀ c, c ≤ 2048 → it h 17 m = nI c → 0 < c → n' = c) → Bud h' n' (O.map s) c q → K (some t) h') :
    wp_J1_resize h (some m) K := by
  have hrk : 1 ≤ rk n := by
    rcases k.2.2.2.2.1 with w | ⟨e, t, w1, w2, w3, w4⟩
    · rw [w.1]; decide
    · rw [w2, rk_pow]
      have he : e ≤ 10 := by
        rcases Nat.lt_or_ge 10 e with w | w
        · have := Nat.pow_le_pow_right (n := 2) (by decide) w
          omega
        · exact w
      omega
  refine s_resize k hn (by unfold Bud at B; unfold Rm; omega) (fun h' s n' bn' t M E r r0 p0 p1 z1 z2 z3 c1 c2 => fin h' s n' bn' t M E r r0 p0 p1 z1 z2 z3 ?_)
  have hl' := lc_le h' (O.map s)
  rw [List.length_map] at hl'
  have hrk' : rk n' + 1 ≤ rk n := by
    rcases M.2.2.2.2.1 with w | ⟨e, t', w1, w2, w3, w4⟩
    · omega
    · rcases k.2.2.2.2.1 with v | ⟨e0, t0, v1, v2, v3, v4⟩
      · rw [v.1, w2, rk_pow]
        show 11 - e + 1 ≤ 12
        omega
      · have p0 : 0 < 2 ^ e0 := Nat.pow_pos (by decide)
        have := z1 (by omega)
        rw [w2, v2, ← Nat.pow_succ'] at this
        have ee := congrArg Nat.log2 this
        rw [Nat.log2_two_pow, Nat.log2_two_pow] at ee
        rw [w2, v2, rk_pow, rk_pow]
        omega
  unfold Bud at B ⊢
  omega
theorem tb_loop {h0 : Hp} {m t : Nat} {O L : List Nat} {K : Hp → Prop} {l4 : Int32} (hm0 : kd h0 m = 2 ∨ kd h0 m = 3) (hO0 : ∀ b ∈ O, kd h0 b ≠ 0) (nd : O.Nodup) (mO : m ∉ O) (hL : ∀ a ∈ L, a ∈ O) (ndL : L.Nodup) (hkL : ∀ a ∈ L, kd h0 a = lkOf h0 m) (hnx : NXs h0 3 L none) (hR : Rm h0 L.length (L.length * 11))
    (fin : ∀ h' s, Rep h0 h' m O s L 7 → NXs h' 3 (L.map s) none → PVs h' 9 none (L.map s) → (∃ a150, some t = some a150 ∧ (∃ j152, l4 = nI j152 ∧ j152 < ln h' a150 ∧ ∀ h155, h155 = wR h' (100 + j152) a150 (L.map s).head? → (((L.map s).head? = none → (wp_J1_treeifyBin_b109 K h155)) ∧ (∀ a157, (L.map s).head? = some a157 → (wp_J8_treeify h155 (L.map s).head? (some t) (fun h160 => Ex h155 h160 → (wp_J1_treeifyBin_b109 K h160)))))))) :
    ∀ (R : List Nat) (p : Nat) (P : List Nat) (h : Hp) (s : Nat → Nat) (n : Nat), L = P ++ p :: R → R.length + 1 ≤ n → Rep h0 h m O s P 7 → NXs h 3 (P.map s) none → PVs h 9 none (P.map s) → wp_J1_treeifyBin_b43 K n h (some m) (some t) l4 (some p) (P.map s).head? (P.map s).getLast?
  | R, p, P, h, s, 0, _, hn, _, _, _ => by omega
  | R, p, P, h, s, n + 1, e, hn, k, hx, hv => by
    have pL : p ∈ L := by rw [e]; exact List.mem_append_right _ List.mem_cons_self
    have pP : p ∉ P := by
      rw [e] at ndL
      exact fun q => (List.nodup_append.mp ndL).2.2 p q p List.mem_cons_self rfl
    have hm00 : kd h0 m ≠ 0 := by omega
    have em := (k.2.2.2.1 m hm00).1
    have p0 : kd h0 p ≠ 0 := hO0 p (hL p pL)
    have hpm : p ≠ m := fun q => mO (q ▸ hL p pL)
    have hlen : P.length + (R.length + 1) = L.length := by rw [e]; simp
    have hrm : Rm h 1 11 := by
      unfold Rm at hR ⊢
      have hs := k.2.2.2.2.1
      rw [show szK 7 0 = 11 from rfl] at hs
      rw [hs.1, hs.2]
      omega
    have p3 : ∀ h', (rf h' 3 p = rf h 3 p) → rf h' 3 p = R.head? := fun h' q => by
      rw [q]
      have h1 : rf h0 3 p = R.head? := by
        rw [e] at hnx
        have := NXs_at hnx
        simpa using this
      rcases (k.2.2.2.2.2.1 3 p p0).2 with w | w | w
      · exact absurd w.1 hpm
      · omega
      · rw [w, h1]
    -- behind one node
    have next : ∀ h' s', Rep h0 h' m O s' (P ++ [p]) 7 → NXs h' 3 ((P ++ [p]).map s') none → PVs h' 9 none ((P ++ [p]).map s') → rf h' 3 p = rf h 3 p → wp_J1_treeifyBin_b78 (wp_J1_treeifyBin_b43 K n) K h' (some m) (some t) l4 (some p) ((P ++ [p]).map s').head? ((P ++ [p]).map s').getLast? := by
      intro h' s' k' x' v' q3
      have h3 := p3 h' q3
      unfold wp_J1_treeifyBin_b78
      refine ⟨p, rfl, fun q => ?_, fun b hb => ?_⟩
      · have hR0 : R = [] := by
          rw [h3] at q
          cases R with
          | nil => rfl
          | cons x X => cases q
        subst hR0
        have eL : L = P ++ [p] := e
        rw [← eL] at k' x' v' ⊢
        exact fin h' s' k' x' v'
      · rw [h3]
        cases R with
        | nil => rw [h3] at hb; cases hb
        | cons x X => exact tb_loop hm0 hO0 nd mO hL ndL hkL hnx hR fin X x (P ++ [p]) h' s' n (by rw [e]; simp) (by simpa using hn) k' x' v'
    have go : ∀ a h', NewN h h' m (O.map s) a 7 (it h 0 p) (rf h 1 p) (rf h 2 p) none → kd h0 a = 0 → Rep h0 h' m O (fun x => if x = p then a else s x) (P ++ [p]) 7 → wp_J1_treeifyBin_b50 (wp_J1_treeifyBin_b43 K n) K h' (some m) (some t) l4 (some p) (P.map s).head? (P.map s).getLast? (some a) := by
      intro a h' hN ha0 k'
      have hpa : p ≠ a := fun q => p0 (q ▸ ha0)
      have hp3 : rf h' 3 p = rf h 3 p := by
        rcases (hN.2.2.2.2.2.2 3 p hpa).2 with w | w | w
        · exact absurd w.1 hpm
        · omega
        · exact w
      have nx' : ∀ f, f = 3 ∨ f = 9 → ∀ b ∈ P.map s, rf h' f b = rf h f b := fun f hf b hb => by
        obtain ⟨y, hy, ey⟩ := List.mem_map.mp hb
        obtain ⟨g1, g2, -⟩ := k.2.1 y hy
        have hba : b ≠ a := fun q => by rw [← ey] at q; rw [q, hN.1] at g2; cases g2
        rcases (hN.2.2.2.2.2.2 f b hba).2 with w | w | w
        · rw [← ey] at w; rw [w.1] at g1; exact absurd g1 hm00
        · omega
        · exact w
      have hPa : (P ++ [p]).map (fun x => if x = p then a else s x) = P.map s ++ [a] := map_app1 pP
      have a3 : rf h' 3 a = none := hN.2.2.2.2.2.1.2.2.2.1
      have a9 : rf h' 9 a = none := hN.2.2.2.2.2.1.2.2.2.2 9 (by omega)
      unfold wp_J1_treeifyBin_b50
      refine ⟨fun q => ?_, fun l hl => ?_⟩
      · have hP : P.map s = [] := by
          cases hc : P.map s with
          | nil => rfl
          | cons x X => rw [hc] at q; simp [List.getLast?_cons] at q
        have ih := next h' _ k' (by rw [hPa, hP]; exact ⟨by rw [a3]; rfl, trivial⟩) (by rw [hPa, hP]; exact ⟨a9, trivial⟩) hp3
        rw [hPa, hP] at ih
        exact ih
      · refine ⟨a, rfl, ?_⟩
        rintro h1 rfl h2 rfl
        have lP : l ∈ P.map s := mem_last hl
        obtain ⟨y, hy, ey⟩ := List.mem_map.mp lP
        have l0 : kd h0 l = 0 := by rw [← ey]; exact (k.2.1 y hy).1
        have lp : l ≠ p := fun q => p0 (q ▸ l0)
        have la : l ≠ a := fun q => by
          have := (k.2.1 y hy).2.1
          rw [ey, q, hN.1] at this
          cases this
        have aP : ∀ b ∈ P.map s, b ≠ a := fun b hb q => by
          obtain ⟨y, hy, ey⟩ := List.mem_map.mp hb
          have := (k.2.1 y hy).2.1
          rw [ey, q, hN.1] at this
          cases this
        rw [hl]
        have ih := next (wR (wR h' 9 a (some l)) 3 l (some a)) _ ((k'.wr (some l) (Or.inr rfl) ha0).wr (some a) (Or.inl rfl) l0) (by
          rw [hPa, NXs_app]
          refine ⟨NXs_re hx k.2.2.1 (fun l' hl' => ?_) (fun b hb q => ?_), ⟨?_, trivial⟩⟩
          · rw [hl] at hl'; cases hl'
            rw [rf_wR, if_pos ⟨rfl, rfl⟩]; rfl
          · rw [rf_wR, if_neg (by rintro ⟨-, rfl⟩; exact q hl), rf_wR, if_neg (by omega)]; exact nx' 3 (Or.inl rfl) b hb
          · rw [rf_wR, if_neg (fun w => la w.2.symm), rf_wR, if_neg (by omega), a3]; rfl) (by
          rw [hPa, PVs_app]
          refine ⟨PVs_fr (fun b hb => ?_) hv, ⟨?_, trivial⟩⟩
          · rw [rf_wR, if_neg (by omega), rf_wR, if_neg (fun w => aP b hb w.2)]; exact nx' 9 (Or.inr rfl) b hb
          · rw [rf_wR, if_neg (by omega), rf_wR, if_pos ⟨rfl, rfl⟩, hl]; rfl) (by rw [rf_wR, if_neg (fun w => lp w.2.symm), rf_wR, if_neg (by omega)]; exact hp3)
        rw [hPa] at ih
        have e1 : (P.map s ++ [a]).head? = (P.map s).head? := by
          cases hc : P.map s with
          | nil => rw [hc] at lP; cases lP
          | cons c C => rfl
        have e2 : (P.map s ++ [a]).getLast? = some a := by simp
        rw [e1, e2] at ih
        exact ih
    unfold wp_J1_treeifyBin_b43
    have hPO : ∀ y ∈ P, y ∈ O := fun y hy => hL y (by rw [e]; exact List.mem_append_left _ hy)
    have hkp : kd h0 m = 3 → kd h0 p = 6 ∨ kd h0 p = 7 := fun w => by
      left
      rw [hkL p pL]; unfold lkOf; rw [if_neg (by omega)]
    obtain ⟨r2, r3⟩ := rep_node (G := fun o h' => wp_J1_treeifyBin_b50 (wp_J1_treeifyBin_b43 K n) K h' (some m) (some t) l4 (some p) (P.map s).head? (P.map s).getLast? o) k pP (hL p pL) hO0 nd hm0 mO hkp (by decide) hPO go
    rcases hm0 with q | q
    · left
      have em2 : kd h m = 2 := by rw [em]; exact q
      refine ⟨m, rfl, em2, s_J1_replacementTreeNode (O := O.map s) hrm (by rw [(k.2.2.2.1 p p0).1]; exact p0) (fun a h' hN _ => r2 em2 a h' hN)⟩
    · right
      have em3 : kd h m = 3 := by rw [em]; exact q
      obtain ⟨X, Y, eX, ndm, nz, mX, dlX, r3⟩ := r3 em3
      refine ⟨m, rfl, em3, s_J2_replacementTreeNode hrm (by rw [em]; exact hm00) (by rw [(k.2.2.2.1 p p0).1]; exact hkp q) nz mX ndm dlX (fun a h' hN hD _ => r3 a h' hN hD)⟩

theorem lc_frame {h h' : Hp} {O : List Nat} (hk : ∀ x ∈ O, kd h' x = kd h x) : lc h' O = lc h O := by
  have := lc_map (h := h) (h' := h') (O := O) (s := id) (fun x hx => by rw [id, hk x hx])
  simpa using this
/-- O falls apart into a bin and the rest -/
theorem MB.cut {h : Hp} {m n i : Nat} {bn : Nat → List Nat} {O : List Nat} (k : MB h m n bn O) (hi : i < n) : ∃ R, O.Perm (bn i ++ R) ∧ (∀ a ∈ R, a ∉ bn i) ∧ ∀ a ∈ R, a ∈ O := by
  obtain ⟨A, B, h1, -⟩ := nodes_updB (bn := bn) (L := []) hi
  have p : O.Perm (bn i ++ (A ++ B)) := by
    refine k.2.2.1.trans ?_
    rw [h1, List.append_assoc]
    exact List.perm_append_comm_assoc A (bn i) B
  have nd := p.nodup_iff.mp k.2.1
  exact ⟨A ++ B, p, fun a ha hb => (List.nodup_append.mp nd).2.2 a hb a ha rfl, fun a ha => p.mem_iff.mpr (List.mem_append_right _ ha)⟩
theorem s_treeifyBin {h : Hp} {m n t c q : Nat} {bn : Nat → List Nat} {O : List Nat} {z : Int32} {K : Hp → Prop} (k : MB h m n bn O) (ht : rf h 13 m = some t) (hn0 : 0 < n) (hL : bn (ix n z) ≠ []) (hk : ∀ a ∈ bn (ix n z), kd h a = lkOf h m) (hl : O.length ≤ 1464) (B : Bud h n O c q)
    (fin : ∀ h' s n' bn', MB h' m n' bn' (O.map s) → Evo (PZ h m O) h h' m O s → (∀ t', rf h' 13 m = some t' → rf h 13 m = some t' ∨ kd h t' = 0) → 0 < n' → (n' = n ∨ n ≤ 1024) → Bud h' n' (O.map s) c q → K h') : wp_J1_treeifyBin h (some m) (some t) z K := by
  obtain ⟨k1, k2, k3, k4, k5, k6, k7, k8⟩ := id k
  have m0 : kd h m ≠ 0 := by rcases k1 with w | w <;> rw [w] <;> decide
  rcases k5 with w | ⟨e, t1, w1, w2, w3, w4⟩
  · omega
  · rw [ht] at w3
    cases w3
    have p11 : 2 ^ e ≤ 2 ^ 11 := Nat.pow_le_pow_right (by decide) w1
    have lk0 := lkOf_ok h m
    obtain ⟨x1, x2⟩ := ix_ok (n := n) z hn0 (by omega)
    have hO0 : ∀ b ∈ O, kd h b ≠ 0 := fun b hb => by have := k4 b hb; omega
    unfold wp_J1_treeifyBin
    refine ⟨(fun w => by cases w), fun t' ht' hlt => ?_⟩
    cases ht'
    rw [w4.2.1]
    refine ⟨fun _ => ?_, fun w => ?_⟩
    · obtain ⟨b1, b2⟩ := w4.2.2 (ix n z) x2
      generalize hj : ix n z = j at x1 x2 hL hk b1 b2
      refine ⟨j, x1, x2, fun w => ?_, fun p0 hp0 => ?_⟩
      · rw [b1] at w
        cases e : bn j with
        | nil => exact absurd e hL
        | cons x X => rw [e] at w; cases w
      · obtain ⟨R, hR⟩ : ∃ R, bn j = p0 :: R := by
          rw [b1] at hp0
          cases e : bn j with
          | nil => exact absurd e hL
          | cons x X => rw [e] at hp0; cases hp0; exact ⟨X, rfl⟩
        obtain ⟨R0, pR, oR, iR⟩ := k.cut x2
        have lcs : lc h O = (bn j).length + lc h R0 := by
          rw [lc_perm pR, lc_app, lc_all (fun a ha => by rw [hk a ha]; omega)]
        have inO : ∀ a ∈ bn j, a ∈ O := fun a ha => pR.mem_iff.mpr (List.mem_append_left _ ha)
        have tm : ∀ a ∈ bn j, a ≠ t := fun a ha w => by have := b2.kd lk0 ha; have := w4.1; rw [w] at *; omega
        rw [hp0]
        refine ⟨R.length + 1, tb_loop (L := bn j) (O := O) k1 hO0 k2 k.mO inO b2.2.1.nd hk b2.2.2.1 (by unfold Bud at B; unfold Rm; omega) (fun h1 s R1 n1 v1 => ?_) R p0 [] h id _ hR (Nat.le_refl _) (Rep.start k6) trivial trivial⟩
        have mapne : (bn j).map s ≠ [] := by simpa using hL
        have E1 : Evo (PH (bn j) t j) h h1 m O s := (R1.evo (by decide) hO0 k2 m0 k.mO).mono (fun _ _ _ q => q.elim)
        refine ⟨t, rfl, j, x1, by rw [(E1.1.1 t (by have := w4.1; omega)).2, w4.2.1]; exact x2, ?_⟩
        rintro h2 rfl
        refine ⟨fun w => ?_, fun hd _ => ?_⟩
        · cases e : (bn j).map s with
          | nil => exact absurd e mapne
          | cons x X => rw [e] at w; cases w
        · have E2 : Evo (PH (bn j) t j) h (wR h1 (100 + j) t ((bn j).map s).head?) m O s := E1.chg ((Chg.refl (PH (bn j) t j) h1).wR _ (Or.inr ⟨rfl, rfl⟩)) (fun _ _ _ q => q) (fun f x q => q.fl)
          have gg : ∀ f b, f < 100 → rf (wR h1 (100 + j) t ((bn j).map s).head?) f b = rf h1 f b := fun f b hf => by rw [rf_wR, if_neg (by omega)]
          have u1 : ∀ a ∈ (bn j).map s, ∃ y ∈ bn j, s y = a := fun a ha => by
            obtain ⟨y, hy, ey⟩ := List.mem_map.mp ha
            exact ⟨y, hy, ey⟩
          have kd7 : ∀ a ∈ (bn j).map s, kd h1 a = 7 := fun a ha => by
            obtain ⟨y, hy, rfl⟩ := u1 a ha
            exact (R1.2.1 y hy).2.1
          have new0 : ∀ a ∈ (bn j).map s, kd h a = 0 := fun a ha => by
            obtain ⟨y, hy, rfl⟩ := u1 a ha
            exact (R1.2.1 y hy).1
          have ixs : ∀ a ∈ (bn j).map s, ix n (it h1 0 a) = j := fun a ha => by
            obtain ⟨y, hy, rfl⟩ := u1 a ha
            rw [(R1.2.1 y hy).2.2.1]; exact (b2.1 y hy).2
          have hd1 : HD h1 ((bn j).map s) := by
            unfold HD
            rw [List.pairwise_map]
            exact List.Pairwise.imp_of_mem (fun {x y} hx hy w => by rw [(R1.2.1 x hx).2.2.1, (R1.2.1 y hy).2.2.1]; exact w) b2.2.1
          refine s_treeify (h0 := wR h1 (100 + j) t ((bn j).map s).head?) (n := n) mapne (by show ln h1 t = n; rw [(E1.1.1 t (by have := w4.1; omega)).2]; exact w4.2.1) hn0 (by show kd h1 t = 51; rw [(E1.1.1 t (by have := w4.1; omega)).1]; exact w4.1) kd7 hd1 (fun a ha b hb => (ixs a ha).trans (ixs b hb).symm) (fun a ha => ?_) (NXs_fr (fun a _ => gg 3 a (by omega)) n1) (PVs_fr (fun a _ => gg 9 a (by omega)) v1) (fun h3 L3 p3 c3 e3 n3 v3 t3 _ => ?_)
          · show rf _ (100 + ix n (it h1 0 a)) t = _
            rw [ixs a ha, rf_wR, if_pos ⟨rfl, rfl⟩]
          · unfold wp_J1_treeifyBin_b109
            have E3 : Evo (PH (bn j) t j) h h3 m O s := E2.chg c3 (fun f x x0 q => by
              rcases q with q | ⟨q1, b, hb, q2⟩
              · exact absurd (new0 x q.1) x0
              · refine Or.inr ⟨q1, ?_⟩
                rw [q2]
                show 100 + ix n (it h1 0 b) = _
                rw [ixs b hb]) (fun f x q => by
              rcases q with q | ⟨q1, b, hb, q2⟩
              · omega
              · omega)
            have I3 : IntS h h3 := E3.int PH.no
            have keep : ∀ a ∈ (bn j).map s, ∀ f, f < 3 → rf h3 f a = rf h1 f a ∧ it h3 f a = it h1 f a := fun a ha f hf => by
              rw [← gg f a (by omega)]
              exact ⟨c3.rf (fun q => by rcases q with q | ⟨q1, b, hb, q2⟩ <;> omega), c3.it (fun q => by rcases q with q | ⟨q1, b, hb, q2⟩ <;> omega)⟩
            obtain ⟨r, S, sub, s1, s2, s3⟩ := t3
            have B3 : Bin h3 (lkOf h m) n j L3 := by
              refine ⟨fun a ha => ?_, ?_, n3, Or.inr ⟨fun a ha => ?_, v3, r, S, sub, s1, s2, s3⟩⟩
              · have ha' := p3.mem_iff.mp ha
                obtain ⟨y, hy, rfl⟩ := u1 a ha'
                obtain ⟨g1, g2, g3, g4, g5⟩ := R1.2.1 y hy
                refine ⟨(b2.1 y hy).1.fra I3 ((keep _ ha' 0 (by omega)).2.trans g3) ((keep _ ha' 1 (by omega)).1.trans g4) ((keep _ ha' 2 (by omega)).1.trans g5), ?_⟩
                rw [(keep _ ha' 0 (by omega)).2]; exact ixs _ ha'
              · exact (hd1.perm p3.symm).fra (fun a ha => (keep a (p3.mem_iff.mp ha) 0 (by omega)).2)
              · rw [c3.1]; exact kd7 a (p3.mem_iff.mp ha)
            obtain ⟨a0, ha0⟩ := List.exists_mem_of_ne_nil _ mapne
            have e3' : rf h3 (100 + j) t = L3.head? := by
              have := e3 a0 ha0
              rw [show it (wR h1 (100 + j) t ((bn j).map s).head?) 0 a0 = it h1 0 a0 from rfl, ixs a0 ha0] at this
              exact this
            have M3 := k.set ht x2 E3 R1.1 p3 e3' B3
            refine fin h3 s n _ M3 (E3.mono (fun f b b0 q => ?_)) (fun t' ht' => Or.inl ?_) hn0 (Or.inl rfl) ?_
            · rcases q with q | q
              · exact Or.inr (Or.inl ⟨inO b q.1, q.2⟩)
              · exact Or.inr (Or.inr ⟨by rw [q.1]; exact ht, by omega⟩)
            · rw [← (E3.keep m0 (f := 13) (by omega) (fun q => by
                rcases q with q | q
                · exact k.mO (inO m q.1)
                · omega)).1]
              exact ht'
            · have l3 : lc h3 (O.map s) = lc h R0 := by
                rw [lc_perm (pR.map s), List.map_append, lc_app, lc_none (fun a ha => by rw [c3.1]; exact kd7 a ha), Nat.zero_add]
                have e1 : R0.map s = R0 := by
                  rw [List.map_congr_left (g := id) (fun a ha => R1.1 a (oR a ha))]; simp
                rw [e1]
                exact lc_frame (fun x hx => (E3.1.1 x (hO0 x (iR x hx))).1)
              have n1 : nc h3 = nc h + (bn j).length := by rw [c3.2.2.1]; exact R1.2.2.2.2.1.1
              have n2 : ns h3 = ns h + (bn j).length * 11 := by rw [c3.2.2.2.1]; exact R1.2.2.2.2.1.2
              unfold Bud at B ⊢
              rw [l3, n1, n2]
              omega
    · have hn64 : n ≤ 64 := by
        have : ¬ nI 64 ≤ nI n := w
        rw [nI_leI (by omega) (by omega)] at this
        omega
      unfold wp_J1_treeifyBin_b13
      refine ⟨m, rfl, s_resizeB k (by omega) hl B (fun h' s n' bn' t' M E r r0 p0 p1 z1 z2 z3 B' _ => ?_)⟩
      unfold wp_J1_treeifyBin_b17 wp_J1_treeifyBin_b109
      exact fin h' s n' bn' M E (fun t2 ht2 => by rw [r] at ht2; cases ht2; exact Or.inr r0) p0 (Or.inr (by omega)) B'
