/-! RESIZE, the loop over the bins -/
set_option maxRecDepth 100000
theorem nodes_succ (n : Nat) (g : Nat → List Nat) : nodes (n + 1) g = nodes n g ++ g n := by
  unfold nodes
  rw [List.range_succ, List.flatMap_append]
  simp
theorem nodes_congr {g g' : Nat → List Nat} : ∀ {n : Nat}, (∀ i, i < n → g i = g' i) → nodes n g = nodes n g'
  | 0, _ => rfl
  | n + 1, h => by rw [nodes_succ, nodes_succ, nodes_congr (fun i hi => h i (by omega)), h n (by omega)]
theorem nodes_map (s : Nat → Nat) (g : Nat → List Nat) : ∀ n, (nodes n g).map s = nodes n (fun i => (g i).map s)
  | 0 => rfl
  | n + 1 => by rw [nodes_succ, nodes_succ, List.map_append, nodes_map s g n]
theorem nodes_perm {g g' : Nat → List Nat} : ∀ {n : Nat}, (∀ i, i < n → (g i).Perm (g' i)) → (nodes n g).Perm (nodes n g')
  | 0, _ => List.Perm.refl _
  | n + 1, h => by rw [nodes_succ, nodes_succ]; exact (nodes_perm (fun i hi => h i (by omega))).append (h n (by omega))
theorem nodes_two (g g' : Nat → List Nat) : ∀ n, (nodes n g ++ nodes n g').Perm (nodes n (fun i => g i ++ g' i))
  | 0 => List.Perm.refl _
  | n + 1 => by
    rw [nodes_succ, nodes_succ, nodes_succ]
    have h1 : (nodes n g ++ g n ++ (nodes n g' ++ g' n)).Perm (nodes n g ++ nodes n g' ++ (g n ++ g' n)) := by
      simp only [List.append_assoc]
      refine List.Perm.append_left _ ?_
      exact List.perm_append_comm_assoc (g n) (nodes n g') (g' n)
    exact h1.trans ((nodes_two g g' n).append_right _)
theorem nodes_add (g : Nat → List Nat) (n : Nat) : ∀ k, nodes (n + k) g = nodes n g ++ nodes k (fun i => g (i + n))
  | 0 => by simp [nodes]
  | k + 1 => by
    show nodes ((n + k) + 1) g = _
    rw [nodes_succ, nodes_succ, nodes_add g n k, List.append_assoc, Nat.add_comm k n]
theorem nodes_nil (n : Nat) : nodes n (fun _ => []) = [] := by
  induction n with
  | zero => rfl
  | succ n ih => rw [nodes_succ, ih]; rfl
theorem Bin.kd {h : Hp} {lk n i : Nat} {L : List Nat} (k : Bin h lk n i L) (hlk : lk = 5 ∨ lk = 6) {a : Nat} (ha : a ∈ L) : 5 ≤ kd h a ∧ kd h a ≤ 7 := by
  rcases k.2.2.2 with w | w
  · have := w a ha; omega
  · have := w.1 a ha; omega
theorem Evo.comp {P Q : Nat → Nat → Prop} {h0 h1 h2 : Hp} {m : Nat} {O : List Nat} {s1 s2 : Nat → Nat} (a : Evo P h0 h1 m O s1) (b : Evo Q h1 h2 m (O.map s1) s2) (hQ : ∀ f x, kd h0 x ≠ 0 → Q f x → P f x) (hm : kd h0 m ≠ 0) : Evo P h0 h2 m O (fun x => s2 (s1 x)) := a.trans b hQ hm
def PL (O : List Nat) (t0 t : Nat) (f b : Nat) : Prop := (b ∈ O ∧ (f = 3 ∨ (6 ≤ f ∧ f ≤ 10))) ∨ (b = t0 ∧ 100 ≤ f) ∨ (b = t ∧ 100 ≤ f)
theorem PL.fl {O : List Nat} {t0 t f b : Nat} (q : PL O t0 t f b) : f = 3 ∨ (6 ≤ f ∧ f ≤ 10) ∨ 100 ≤ f := by
  rcases q with q | q | q <;> omega
/-- between two bins: those below j have gone over -/
def RI (h1 : Hp) (m t t0 e lk : Nat) (O : List Nat) (bn : Nat → List Nat) (j : Nat) (h : Hp) (s : Nat → Nat) (bN : Nat → List Nat) : Prop :=
  Evo (PL O t0 t) h1 h m O s ∧
  (∀ i, j ≤ i → i < 2 ^ e → rf h (100 + i) t0 = (bn i).head? ∧ Bin h lk (2 ^ e) i (bn i) ∧ ∀ x ∈ bn i, s x = x) ∧
  (∀ i, i < j → rf h (100 + i) t = (bN i).head? ∧ rf h (100 + (i + 2 ^ e)) t = (bN (i + 2 ^ e)).head? ∧ Bin h lk (2 ^ e * 2) i (bN i) ∧ Bin h lk (2 ^ e * 2) (i + 2 ^ e) (bN (i + 2 ^ e)) ∧ (bN i ++ bN (i + 2 ^ e)).Perm ((bn i).map s)) ∧
  (∀ i, j ≤ i → i < 2 ^ e → rf h (100 + i) t = none ∧ rf h (100 + (i + 2 ^ e)) t = none) ∧
  nc h ≤ nc h1 + (nodes j bn).length ∧ ns h ≤ ns h1 + (nodes j bn).length * 6
def PT2 (L : List Nat) (t t0 i j : Nat) (f b : Nat) : Prop := PS L t i j f b ∨ (b = t0 ∧ f = 100 + i)
theorem RI.adv {h1 : Hp} {m t t0 e lk : Nat} {O : List Nat} {bn : Nat → List Nat} {j : Nat} {h : Hp} {s : Nat → Nat} {bN : Nat → List Nat} (k : RI h1 m t t0 e lk O bn j h s bN) (he : e ≤ 20) (hj : j < 2 ^ e) (hlk : lk = 5 ∨ lk = 6) (hm : kd h1 m ≠ 0) (hO : ∀ x ∈ bn j, x ∈ O) (kt : kd h1 t = 51) (kt0 : kd h1 t0 = 51) (tt : t ≠ t0)
    {h' : Hp} {s2 : Nat → Nat} {lo hi : List Nat} (E2 : Evo (PT2 (bn j) t t0 j (j + 2 ^ e)) h h' m (O.map s) s2) (s2x : ∀ x, x ∉ bn j → s2 x = x) (p : (lo ++ hi).Perm ((bn j).map s2)) (q1 : rf h' (100 + j) t = lo.head?) (q2 : rf h' (100 + (j + 2 ^ e)) t = hi.head?) (b1 : Bin h' lk (2 ^ e * 2) j lo) (b2 : Bin h' lk (2 ^ e * 2) (j + 2 ^ e) hi) (c1 : nc h' ≤ nc h + (bn j).length) (c2 : ns h' ≤ ns h + (bn j).length * 6) :
    RI h1 m t t0 e lk O bn (j + 1) h' (fun x => s2 (s x)) (fun k => if k = j then lo else if k = j + 2 ^ e then hi else bN k) := by
  obtain ⟨k1, k2, k3, k4, k5, k6⟩ := k
  have p0 : 0 < 2 ^ e := Nat.pow_pos (by decide)
  have p20 : 2 ^ e ≤ 2 ^ 20 := Nat.pow_le_pow_right (by decide) he
  obtain ⟨-, bj, sj⟩ := k2 j (Nat.le_refl _) hj
  have kth : kd h t = 51 := by rw [(k1.1.1 t (by omega)).1]; exact kt
  have kt0h : kd h t0 = 51 := by rw [(k1.1.1 t0 (by omega)).1]; exact kt0
  have tL : t ∉ bn j := fun q => by have := bj.kd hlk q; omega
  have t0L : t0 ∉ bn j := fun q => by have := bj.kd hlk q; omega
  have Lix : ∀ x ∈ bn j, ix (2 ^ e * 2) (it h 0 x) = j ∨ ix (2 ^ e * 2) (it h 0 x) = j + 2 ^ e := fun x hx => by
    rw [ix_double he, (bj.1 x hx).2]
    split <;> omega
  have I2 : IntS h h' := E2.int (fun x q => by
    rcases q with q | q
    · have := q.fl; omega
    · omega)
  -- a bin that has none of the nodes of bin j stays
  have fr : ∀ x, kd h x ≠ 0 → x ∉ bn j → x ≠ t → x ≠ t0 → ∀ f, f ≠ 4 ∧ f ≠ 5 ∧ f ≠ 19 ∧ f ≠ 20 → rf h' f x = rf h f x ∧ it h' f x = it h f x := fun x x0 xL xt xt0 f hf => E2.keep x0 hf (fun q => by
    rcases q with (q | q) | q
    · exact xL q.1
    · exact xt q.1
    · exact xt0 q.1)
  have stay : ∀ {N i : Nat} {M : List Nat}, Bin h lk N i M → (∀ x ∈ M, x ∉ bn j) → Bin h' lk N i M := fun {N i M} b hM => by
    have g : ∀ x ∈ M, ∀ f, f ≠ 4 ∧ f ≠ 5 ∧ f ≠ 19 ∧ f ≠ 20 → rf h' f x = rf h f x ∧ it h' f x = it h f x := fun x hx => by
      have := b.kd hlk hx
      exact fr x (by omega) (hM x hx) (fun w => by rw [w] at this; omega) (fun w => by rw [w] at this; omega)
    exact b.fra I2 (fun x hx => by have := b.kd hlk hx; exact (E2.1.1 x (by omega)).1) (fun x hx => (g x hx 0 (by decide)).2) (fun x hx f hf => (g x hx f (by omega)).1)
  have gt : ∀ f, 100 ≤ f → f ≠ 100 + j → f ≠ 100 + (j + 2 ^ e) → rf h' f t = rf h f t := fun f hf e1 e2 => (E2.keep (by omega) (by omega) (fun q => by
    rcases q with (q | q) | q
    · exact tL q.1
    · omega
    · exact tt q.1)).1
  have gt0 : ∀ f, 100 ≤ f → f ≠ 100 + j → rf h' f t0 = rf h f t0 := fun f hf e1 => (E2.keep (by omega) (by omega) (fun q => by
    rcases q with (q | q) | q
    · exact t0L q.1
    · exact tt q.1.symm
    · omega)).1
  generalize hF : (fun k => if k = j then lo else if k = j + 2 ^ e then hi else bN k) = F
  have eF : ∀ k, F k = if k = j then lo else if k = j + 2 ^ e then hi else bN k := fun k => by rw [← hF]
  refine ⟨k1.comp E2 (fun f x hx q => ?_) hm, fun i h1 h2 => ?_, fun i hij => ?_, fun i h1 h2 => ?_, ?_, ?_⟩
  · rcases q with (q | q) | q
    · exact Or.inl ⟨hO x q.1, q.2⟩
    · exact Or.inr (Or.inr ⟨q.1, by omega⟩)
    · exact Or.inr (Or.inl ⟨q.1, by omega⟩)
  · obtain ⟨g1, g2, g3⟩ := k2 i (by omega) h2
    have off : ∀ x ∈ bn i, x ∉ bn j := fun x hx hy => by
      have := (g2.1 x hx).2
      rw [(bj.1 x hy).2] at this
      omega
    refine ⟨by rw [gt0 _ (by omega) (by omega)]; exact g1, stay g2 off, fun x hx => ?_⟩
    show s2 (s x) = x
    rw [g3 x hx, s2x x (off x hx)]
  · by_cases q : i = j
    · subst q
      have e1 : F i = lo := by rw [eF, if_pos rfl]
      have e2 : F (i + 2 ^ e) = hi := by rw [eF, if_neg (by omega), if_pos rfl]
      rw [e1, e2]
      refine ⟨q1, q2, b1, b2, ?_⟩
      have : (bn i).map (fun x => s2 (s x)) = (bn i).map s2 := List.map_congr_left (fun x hx => by rw [sj x hx])
      rw [this]; exact p
    · obtain ⟨g1, g2, g3, g4, g5⟩ := k3 i (by omega)
      have e1 : F i = bN i := by rw [eF, if_neg q, if_neg (by omega)]
      have e2 : F (i + 2 ^ e) = bN (i + 2 ^ e) := by rw [eF, if_neg (by omega), if_neg (by omega)]
      rw [e1, e2]
      have o1 : ∀ x ∈ bN i, x ∉ bn j := fun x hx hy => by
        have a1 := (g3.1 x hx).2
        have a2 := Lix x hy
        omega
      have o2 : ∀ x ∈ bN (i + 2 ^ e), x ∉ bn j := fun x hx hy => by
        have a1 := (g4.1 x hx).2
        have a2 := Lix x hy
        omega
      refine ⟨by rw [gt _ (by omega) (by omega) (by omega)]; exact g1, by rw [gt _ (by omega) (by omega) (by omega)]; exact g2, stay g3 o1, stay g4 o2, ?_⟩
      have : (bn i).map (fun x => s2 (s x)) = ((bn i).map s).map s2 := by rw [List.map_map]; rfl
      rw [this]
      have w := g5.map s2
      rw [List.map_congr_left (g := id) (fun x hx => s2x x (by
        rcases List.mem_append.mp hx with hx | hx
        · exact o1 x hx
        · exact o2 x hx))] at w
      simpa using w
  · obtain ⟨g1, g2⟩ := k4 i (by omega) h2
    exact ⟨by rw [gt _ (by omega) (by omega) (by omega)]; exact g1, by rw [gt _ (by omega) (by omega) (by omega)]; exact g2⟩
  · rw [nodes_succ, List.length_append]; omega
  · rw [nodes_succ, List.length_append]; omega
theorem rs_main {h1 : Hp} {m t t0 e lk : Nat} {O : List Nat} {bn : Nat → List Nat} {K : Option Nat → Hp → Prop} (he : e ≤ 20) (hm0 : kd h1 m = 2 ∨ kd h1 m = 3) (hlk : lk = if kd h1 m = 2 then 5 else 6) (hOk : ∀ b ∈ O, kd h1 b ≠ 0) (nd : O.Nodup) (mO : m ∉ O) (dl : kd h1 m = 3 → DL h1 m O) (hOn : O.Perm (nodes (2 ^ e) bn)) (kt : kd h1 t = 51) (lt : ln h1 t = 2 ^ e * 2) (kt0 : kd h1 t0 = 51) (lt0 : ln h1 t0 = 2 ^ e) (tt : t ≠ t0) (hR : Rm h1 O.length (O.length * 6))
    (fin : ∀ h s bN, Evo (PL O t0 t) h1 h m O s → Tab h lk t (2 ^ e * 2) bN → (O.map s).Perm (nodes (2 ^ e * 2) bN) → nc h ≤ nc h1 + O.length → ns h ≤ ns h1 + O.length * 6 → K (some t) h) :
    ∀ (n j : Nat) (h : Hp) (s : Nat → Nat) (bN : Nat → List Nat), j ≤ 2 ^ e → 2 ^ e + 1 ≤ n + j → RI h1 m t t0 e lk O bn j h s bN → wp_J1_resize_b151 K n h (some m) (some t0) (nI (2 ^ e)) (nI (2 ^ e * 2)) (some t) (nI j)
  | 0, j, h, s, bN, hj, hn, k => by omega
  | n + 1, j, h, s, bN, hj, hn, k => by
    have p0 : 0 < 2 ^ e := Nat.pow_pos (by decide)
    have p20 : 2 ^ e ≤ 2 ^ 20 := Nat.pow_le_pow_right (by decide) he
    have hlk2 : lk = 5 ∨ lk = 6 := by rw [hlk]; split <;> omega
    obtain ⟨k1, k2, k3, k4, k5, k6⟩ := id k
    unfold wp_J1_resize_b151
    refine ⟨fun q => ?_, fun q => ?_⟩
    · have hj2 : j = 2 ^ e := by
        rw [nI_leI (by omega) (by omega)] at q; omega
      subst hj2
      unfold wp_J1_resize_b353
      have len : (nodes (2 ^ e) bn).length = O.length := hOn.length_eq.symm
      refine fin h s bN k1 ⟨by rw [(k1.1.1 t (by omega)).1]; exact kt, by rw [(k1.1.1 t (by omega)).2]; exact lt, fun i hi => ?_⟩ ?_ (by omega) (by omega)
      · by_cases q : i < 2 ^ e
        · obtain ⟨g1, g2, g3, g4, g5⟩ := k3 i q
          exact ⟨g1, g3⟩
        · obtain ⟨g1, g2, g3, g4, g5⟩ := k3 (i - 2 ^ e) (by omega)
          rw [show i - 2 ^ e + 2 ^ e = i by omega] at g2 g4
          exact ⟨g2, g4⟩
      · refine (hOn.map s).trans ?_
        rw [nodes_map, Nat.mul_two, nodes_add]
        exact ((nodes_two _ _ _).trans (nodes_perm (fun i hi => (k3 i hi).2.2.2.2))).symm
    · have hj2 : j < 2 ^ e := by
        rw [nI_leI (by omega) (by omega)] at q; omega
      obtain ⟨g1, g2, g3⟩ := k2 j (Nat.le_refl _) hj2
      obtain ⟨r1, r2⟩ := k4 j (Nat.le_refl _) hj2
      have lt0h : ln h t0 = 2 ^ e := by rw [(k1.1.1 t0 (by omega)).2]; exact lt0
      have bO : ∀ x ∈ bn j, x ∈ O := fun x hx => hOn.mem_iff.mpr (mem_nodes.mpr ⟨j, hj2, hx⟩)
      have next : ∀ h' s' bN', RI h1 m t t0 e lk O bn (j + 1) h' s' bN' → wp_J1_resize_b347 (wp_J1_resize_b151 K n) K h' (some m) (some t0) (nI (2 ^ e)) (nI (2 ^ e * 2)) (some t) (nI j) := fun h' s' bN' k' => by
        unfold wp_J1_resize_b347
        have := rs_main he hm0 hlk hOk nd mO dl hOn kt lt kt0 lt0 tt hR fin n (j + 1) h' s' bN' (by omega) (by omega) k'
        rw [← nI_add] at this
        exact this
      have hmh : kd h m = kd h1 m := (k1.1.1 m (by omega)).1
      have ndh := k1.2.2.1
      have hOh : ∀ b ∈ O.map s, kd h b ≠ 0 := fun b hb => by obtain ⟨y, hy, rfl⟩ := List.mem_map.mp hb; exact (k1.2.1 y hy).2.1
      refine ⟨t0, rfl, j, rfl, by rw [lt0h]; exact hj2, fun q => ?_, fun a ha => ⟨j, rfl, by rw [lt0h]; exact hj2, ?_⟩⟩
      · have hb0 : bn j = [] := by
          rw [g1] at q
          cases e : bn j with
          | nil => rfl
          | cons x X => rw [e] at q; cases q
        refine next h (fun x => id (s x)) _ (k.adv (lo := []) (hi := []) he hj2 hlk2 (by omega) bO kt kt0 tt (Evo.start _ h m ndh hOh) (fun _ _ => rfl) (by rw [hb0]; simp) (by rw [r1]; rfl) (by rw [r2]; rfl) (Bin.nil _ _ _ _) (Bin.nil _ _ _ _) (Nat.le_add_right _ _) (Nat.le_add_right _ _))
      · rintro h2 rfl
        rw [ha]
        have C2 : Chg (fun f b => b = t0 ∧ f = 100 + j) h (wR h (100 + j) t0 none) := (Chg.refl _ h).wR _ ⟨rfl, rfl⟩
        have gg : ∀ f b, f < 100 → rf (wR h (100 + j) t0 none) f b = rf h f b := fun f b hf => by rw [rf_wR, if_neg (by omega)]
        have C2' : Chg (PT2 (bn j) t t0 j (j + 2 ^ e)) h (wR h (100 + j) t0 none) := C2.mono (fun f b q => Or.inr q)
        have F2 : ∀ f x, PT2 (bn j) t t0 j (j + 2 ^ e) f x → f = 3 ∨ (6 ≤ f ∧ f ≤ 10) ∨ 100 ≤ f := fun f x q => by
          rcases q with q | q
          · exact q.fl
          · omega
        have E2 : Evo (PT2 (bn j) t t0 j (j + 2 ^ e)) h (wR h (100 + j) t0 none) m (O.map s) id := C2'.evo ndh hOh F2
        have B2 : Bin (wR h (100 + j) t0 none) lk (2 ^ e) j (bn j) := g2.fra (C2.int (fun x q => by omega)) (fun _ _ => rfl) (fun _ _ => rfl) (fun b _ f hf => gg f b (by omega))
        refine rs_bin (h0 := wR h (100 + j) t0 none) (O := O.map s) (L := bn j) he (by rw [show kd (wR h (100 + j) t0 none) m = kd h m from rfl, hmh]; exact hm0) (by rw [show kd (wR h (100 + j) t0 none) m = kd h m from rfl, hmh]; exact hlk) hOh ndh (fun w => ?_) (fun w => ?_) (fun x hx => List.mem_map.mpr ⟨x, bO x hx, g3 x hx⟩) B2 (by rw [← g1]; exact ha) (by rw [show kd (wR h (100 + j) t0 none) t = kd h t from rfl, (k1.1.1 t (by omega)).1]; exact kt) (by rw [show ln (wR h (100 + j) t0 none) t = ln h t from rfl, (k1.1.1 t (by omega)).2]; exact lt) hj2 ?_ ?_ ?_ (fun h' s2 lo hi E3 s2x p q1 q2 b1 b2 c1 c2 => ?_)
        · obtain ⟨y, hy, ey⟩ := List.mem_map.mp w
          rcases (k1.2.1 y hy).1 with z | z
          · exact mO (by rw [← ey, z]; exact hy)
          · rw [ey] at z; omega
        · have := E2.dl (by omega) (k1.dl (by omega) dl) w
          simpa using this
        · have len : (nodes (j + 1) bn).length ≤ O.length := by
            rw [hOn.length_eq]
            obtain ⟨d, hd⟩ : ∃ d, 2 ^ e = (j + 1) + d := ⟨2 ^ e - (j + 1), by omega⟩
            rw [hd, nodes_add bn (j + 1) d, List.length_append]; omega
          rw [nodes_succ, List.length_append] at len
          unfold Rm at hR ⊢
          show nc h + _ ≤ _ ∧ ns h + _ ≤ _
          omega
        · rw [rf_wR, if_neg (fun (w : 100 + j = 100 + j ∧ t = t0) => tt w.2)]; exact r1
        · rw [rf_wR, if_neg (fun (w : 100 + (j + 2 ^ e) = 100 + j ∧ t = t0) => tt w.2)]; exact r2
        · have E4 := E2.comp (s2 := s2) (h2 := h') (Q := PS (bn j) t j (j + 2 ^ e)) (by simpa using E3) (fun f x hx q => Or.inl q) (by omega)
          exact next h' _ _ (k.adv (lo := lo) (hi := hi) he hj2 hlk2 (by omega) bO kt kt0 tt (s2 := s2) E4 s2x p q1 q2 b1 b2 c1 c2)
