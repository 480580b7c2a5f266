/-! PUTVAL, the whole -/
set_option maxRecDepth 100000
theorem MB.inO {h : Hp} {m n i : Nat} {bn : Nat → List Nat} {O : List Nat} (k : MB h m n bn O) (hi : i < n) : ∀ x ∈ bn i, x ∈ O := fun x hx => k.2.2.1.mem_iff.mpr (mem_nodes.mpr ⟨i, hi, hx⟩)
theorem MB.tab {h : Hp} {m n t : Nat} {bn : Nat → List Nat} {O : List Nat} (k : MB h m n bn O) (ht : rf h 13 m = some t) : Tab h (lkOf h m) t n bn ∧ 0 < n ∧ n ≤ 2048 := by
  rcases k.2.2.2.2.1 with w | ⟨e, t1, w1, w2, w3, w4⟩
  · rw [w.2] at ht; cases ht
  · rw [ht] at w3; cases w3
    have p11 : 2 ^ e ≤ 2 ^ 11 := Nat.pow_le_pow_right (by decide) w1
    have p0 : 0 < 2 ^ e := Nat.pow_pos (by decide)
    exact ⟨w4, by omega, by omega⟩
theorem MB.mt {h : Hp} {m n : Nat} {bn : Nat → List Nat} {O : List Nat} (k : MB h m n bn O) : rf h 13 m ≠ some m := fun w => by
  have := k.tabk w
  rcases k.1 with y | y <;> omega
theorem ins_mst {h h' : Hp} {m n t i a : Nat} {bn : Nat → List Nat} {O : List Nat} {z : Int32} {c v : Nat} (k : MB h m n bn O) (ht : rf h 13 m = some t) (hi : i < n) (kc : kd h c = 4 ∨ kd h c = 60) (kv : kd h v = 4 ∨ kd h v = 60) (E : InsN (PH (bn i) t i) h h' m O a z (some c) (some v)) : Mst h h' m O (O ++ [a]) ∧ (O ++ [a]).map (pr h') = O.map (pr h) ++ [(it h 23 c, it h 23 v)] := by
  have m0 : kd h m ≠ 0 := by rcases k.1 with w | w <;> rw [w] <;> decide
  have I := E.int PH.no
  have hO0 : ∀ x ∈ O, kd h x ≠ 0 := fun x hx => by have := k.2.2.2.1 x hx; omega
  have mm : ∀ f, f ≠ 19 → f ≠ 20 → f ≠ 4 → f ≠ 5 → rf h' f m = rf h f m ∧ it h' f m = it h f m := fun f h1 h2 h3 h4 => E.keep m0 (by omega) (fun q => by
    rcases q with q | q
    · exact k.mO (k.inO hi m q.1)
    · exact k.mt (by rw [ht, q.1]))
  refine ⟨⟨E.1, fun f b b0 bm bO bt => ?_, fun x hx => ?_, fun t' ht' => Or.inl ?_, fun f hf => mm f (by omega) (by omega) (by omega) (by omega)⟩, ?_⟩
  · rcases E.2.2.2.2.1 f b b0 with q | q
    · rcases q with q | q | q
      · exact absurd q.1 bm
      · exact absurd q.1 bO
      · rcases q with q | q
        · exact absurd (k.inO hi b q.1) bO
        · exact absurd (by rw [q.1]; exact ht) bt
    · exact q
  · rcases List.mem_append.mp hx with w | w
    · exact Or.inl w
    · rw [List.mem_singleton.mp w]; exact Or.inr E.2.1
  · rw [← (mm 13 (by omega) (by omega) (by omega) (by omega)).1]; exact ht'
  · rw [List.map_append]
    congr 1
    · refine List.map_congr_left (fun x hx => pr_fra (k.ok x hx) I ?_ ?_)
      · exact (E.keep (hO0 x hx) (by omega) (fun q => by have := q.fl; omega)).1
      · exact (E.keep (hO0 x hx) (by omega) (fun q => by have := q.fl; omega)).1
    · obtain ⟨-, -, -, ⟨y1, y2, y3⟩, -⟩ := E
      show [pr h' a] = _
      unfold pr keyI valI
      rw [y2, y3]
      show [(it h' 23 c, it h' 23 v)] = _
      rw [(I c kc).2, (I v kv).2]
theorem put_end {h h2 : Hp} {m n n2 C Q : Nat} {bn2 : Nat → List Nat} {O O2 : List Nat} {l5 : Int32} {K : Option Nat → Hp → Prop} {pa : Int32 × Int32} (k : MI h m n O) (hl : O.length ≤ 1463) (M : MB h2 m n2 bn2 O2) (S : Mst h h2 m O O2) (hn2 : 0 < n2) (P : O2.map (pr h2) = O.map (pr h) ++ [pa]) (e15 : it h2 15 m = nI O.length) (B : Bud h2 n2 O2 C Q)
    (fin : ∀ h' n' O', MI h' m n' O' → Mst h h' m O O' → O'.map (pr h') = O.map (pr h) ++ [pa] → Bud h' n' O' C Q → K none h') : wp_J1_putVal_b259 K h2 (some m) l5 := by
  obtain ⟨⟨bn, kb⟩, k2, k3⟩ := k
  have m0 : kd h m ≠ 0 := by rcases kb.1 with w | w <;> rw [w] <;> decide
  have len : O2.length = O.length + 1 := by
    have := congrArg List.length P
    simpa using this
  refine s_put259 M hn2 (by rw [e15, len, ← nI_add]; rfl) ?_ (by omega) B (fun h' n' O' M' S' P' B' => fin h' n' O' M' (S.trans S') (P'.trans P) B')
  rw [(S.1.1 m m0).1, (S.2.2.2.2 22 (by omega)).2, (S.2.2.2.2 21 (by omega)).2]
  exact k3
theorem bud_ins {h h1 : Hp} {n a C Q : Nat} {O : List Nat} (B : Bud h n O (C + 2) (Q + 17)) (e : ∀ x ∈ O, kd h1 x = kd h x) (h2 : nc h1 = nc h + 1) (h3 : ns h1 ≤ ns h + 6 ∨ (kd h1 a = 7 ∧ ns h1 = ns h + 11)) : Bud h1 n (O ++ [a]) C Q := by
  have l1 : lc h1 (O ++ [a]) = lc h O + lc h1 [a] := by rw [lc_app, lc_frame e]
  have l2 := lc_le h1 [a]
  have l3 : kd h1 a = 7 → lc h1 [a] = 0 := fun w => lc_none (fun x hx => by rw [List.mem_singleton.mp hx]; exact w)
  unfold Bud at B ⊢
  rw [l1, h2]
  simp at l2
  rcases h3 with w | w
  · omega
  · have := l3 w.1
    omega
theorem put_loop {h : Hp} {m n t i C Q : Nat} {bn : Nat → List Nat} {O : List Nat} {z l4 l5 : Int32} {c v : Nat} {K : Option Nat → Hp → Prop} (k : MI h m n O) (kb : MB h m n bn O) (hl : O.length ≤ 1463) (ht : rf h 13 m = some t) (hi : i < n) (hk : ∀ x ∈ bn i, kd h x = lkOf h m) (hz : z = spr (it h 23 c)) (kc : kd h c = 4 ∨ kd h c = 60) (kv : kd h v = 4 ∨ kd h v = 60) (hzi : ix n z = i) (B : Bud h n O (C + 2) (Q + 17))
    (fin1 : ∀ a ∈ O, keyI h a = it h 23 c → wp_J1_putVal_b222 K h (some m) (some v) l4 l5 (some a))
    (fin : ∀ h' n' O', MI h' m n' O' → Mst h h' m O O' → O'.map (pr h') = O.map (pr h) ++ [(it h 23 c, it h 23 v)] → Bud h' n' O' C Q → (∀ x ∈ bn i, it h 0 x ≠ z) → K none h') :
    ∀ (Y : List Nat) (p : Nat) (X : List Nat) (f : Nat), bn i = X ++ p :: Y → Y.length + 1 ≤ f → (∀ x ∈ X ++ [p], it h 0 x ≠ z) → wp_J1_putVal_b134 K f h (some m) z (some c) (some v) l4 l5 (some t) (some p) (nI X.length)
  | Y, p, X, 0, _, hn, _ => by omega
  | [], p, X, f + 1, e, hn, ne => by
    obtain ⟨T, n0, n1⟩ := kb.tab ht
    obtain ⟨b1, b2⟩ := T.2.2 i hi
    have m0 : kd h m ≠ 0 := by rcases kb.1 with w | w <;> rw [w] <;> decide
    have lk0 := lkOf_ok h m
    have pL : p ∈ bn i := by rw [e]; simp
    have p3 : rf h 3 p = none := by
      have := b2.2.2.1
      rw [e] at this
      have := NXs_at this
      simpa using this
    have ne' : ∀ x ∈ bn i, it h 0 x ≠ z := by rw [e]; exact ne
    have hO0 : ∀ x ∈ O, kd h x ≠ 0 := fun x hx => by have := kb.2.2.2.1 x hx; omega
    unfold wp_J1_putVal_b134
    refine ⟨p, rfl, fun _ => ?_, (fun a w => by rw [p3] at w; cases w)⟩
    refine newL (G := fun r h' => wp_J1_putVal_b155 K h' (some m) z (some v) l4 l5 (some t) (rf h 3 p) (nI X.length) r (some p)) kb (fun w => (k.2.2 w).1) (by have := B.rm; unfold Rm at this ⊢; omega) (fun a h1 N D c6 => ?_)
    have ap : p ≠ a := fun w => hO0 p (kb.inO hi p pL) (w ▸ N.1)
    have aL : a ∉ bn i := fun w => hO0 a (kb.inO hi a w) N.1
    have E1 : InsN (PH (bn i) t i) h h1 m O a z (some c) (some v) := N.insN (by omega) D
    have E2 : InsN (PH (bn i) t i) h (wR h1 3 p (some a)) m O a z (some c) (some v) := E1.chg ((Chg.refl (PH (bn i) t i) h1).wR _ (Or.inl ⟨pL, Or.inl rfl⟩)) (fun _ _ _ q => q) (fun f x q => q.fl)
    have mL : m ∉ bn i := fun w => kb.mO (kb.inO hi m w)
    have o3 : ∀ x ∈ bn i, rf h1 3 x = rf h 3 x := fun x hx => by
      rcases (N.2.2.2.2.2.2 3 x (fun w => aL (w ▸ hx))).2 with w | w | w
      · omega
      · omega
      · exact w
    have nx : NXs (wR h1 3 p (some a)) 3 (bn i ++ [a]) none := by
      refine (NXs_app _ 3 none (bn i) [a]).mpr ⟨?_, ?_, trivial⟩
      · have w := b2.2.2.1
        rw [e] at w ⊢
        refine NXs_last w (fun x hx => ?_) (by rw [rf_wR, if_pos ⟨rfl, rfl⟩]; rfl)
        have nd := b2.2.1.nd
        rw [e] at nd
        have xp : x ≠ p := fun q => (List.nodup_append.mp nd).2.2 p (q ▸ hx) p List.mem_cons_self rfl
        rw [rf_wR, if_neg (fun w => xp w.2)]
        exact o3 x (by rw [e]; exact List.mem_append_left _ hx)
      · rw [rf_wR, if_neg (fun w => ap w.2.symm), N.2.2.2.2.2.1.2.2.2.1]; rfl
    have ka : kd h1 a = lkOf h m := N.2.1
    have ka2 : kd (wR h1 3 p (some a)) a = lkOf h m := ka
    have BN := bin_push b2 hk E2 hz kc kv hzi (by omega) ka ne' nx
    have hd2 : rf (wR h1 3 p (some a)) (100 + i) t = (bn i ++ [a]).head? := by
      rw [rf_wR, if_neg (by omega)]
      have tk := T.1
      have w : rf h1 (100 + i) t = rf h (100 + i) t := by
        rcases (N.2.2.2.2.2.2 (100 + i) t (fun w => by rw [w, N.1] at tk; omega)).2 with w | w | w
        · omega
        · omega
        · exact w
      rw [w, b1, e]
      cases X <;> rfl
    have M2 := kb.ins ht hi E2 (List.perm_append_comm) hd2 BN
    obtain ⟨S2, P2⟩ := ins_mst kb ht hi kc kv E2
    have B2 : Bud (wR h1 3 p (some a)) n (O ++ [a]) C Q := bud_ins B (fun x hx => (E2.1.1 x (hO0 x hx)).1) N.2.2.2.1 (Or.inl c6)
    have e15 : it (wR h1 3 p (some a)) 15 m = nI O.length := by
      rw [(E2.keep m0 (f := 15) (by omega) (fun q => by
        rcases q with q | q
        · exact mL q.1
        · omega)).2]
      exact k.2.1
    rw [p3]
    have fin' : ∀ h' n' O', MI h' m n' O' → Mst h h' m O O' → O'.map (pr h') = O.map (pr h) ++ [(it h 23 c, it h 23 v)] → Bud h' n' O' C Q → K none h' := fun h' n' O' q1 q2 q3 q4 => fin h' n' O' q1 q2 q3 q4 ne'
    unfold wp_J1_putVal_b155
    refine ⟨p, rfl, ?_⟩
    rintro h2' rfl
    generalize wR h1 3 p (some a) = h2 at E2 ka2 nx BN hd2 M2 S2 P2 B2 e15
    refine ⟨fun _ => ?_, fun _ => ⟨m, rfl, ?_⟩⟩
    · unfold wp_J1_putVal_b222
      exact ⟨fun _ => put_end k hl M2 S2 n0 P2 e15 B2 fin', (fun a w => by cases w)⟩
    · have ht2 : rf h2 13 m = some t := by
        rw [(E2.keep m0 (f := 13) (by omega) (fun q => by
          rcases q with q | q
          · exact mL q.1
          · omega)).1]
        exact ht
      have eb : updB bn i (bn i ++ [a]) (ix n z) = bn i ++ [a] := by rw [hzi]; unfold updB; rw [if_pos rfl]
      have elk : lkOf h2 m = lkOf h m := by unfold lkOf; rw [(E2.1.1 m m0).1]
      refine s_treeifyBin M2 ht2 n0 (by rw [eb]; simp) (fun x hx => ?_) (by simp; omega) B2 (fun h3 s n3 bn3 M3 E3 tf p0 _ B3 _ => ?_)
      · rw [eb] at hx
        rw [elk]
        rcases BN.2.2.2 with w | w
        · exact w x hx
        · have := w.1 a (by simp)
          omega
      · have m02 : kd h2 m ≠ 0 := by rw [(E2.1.1 m m0).1]; exact m0
        have S3 : Mst h2 h3 m (O ++ [a]) ((O ++ [a]).map s) := E3.mst tf m02 M2.mO M2.mt
        unfold wp_J1_putVal_b172 wp_J1_putVal_b222
        refine ⟨fun _ => put_end k hl M3 (S2.trans S3) p0 ?_ ?_ B3 fin', (fun a w => by cases w)⟩
        · rw [(E3.prs (E3.int (fun x q => by have := q.fl; omega)) M2.ok).1]; exact P2
        · rw [(E3.keep m02 (f := 15) (by omega) (fun q => by
            rcases q with q | q | q
            · omega
            · exact M2.mO q.1
            · exact M2.mt q.1)).2]
          exact e15
  | y :: Y, p, X, f + 1, e, hn, ne => by
    obtain ⟨T, n0, n1⟩ := kb.tab ht
    obtain ⟨b1, b2⟩ := T.2.2 i hi
    have yL : y ∈ bn i := by rw [e]; simp
    have p3 : rf h 3 p = some y := by
      have := b2.2.2.1
      rw [e] at this
      have := NXs_at this
      simpa using this
    obtain ⟨kk, hkk, hk4, hks⟩ := (b2.1 y yL).1.1
    have next : it h 0 y ≠ z → wp_J1_putVal_b212 (wp_J1_putVal_b134 K f) K h (some m) z (some c) (some v) l4 l5 (some t) (some y) (nI X.length) := fun q => by
      unfold wp_J1_putVal_b212
      have := put_loop k kb hl ht hi hk hz kc kv hzi B fin1 fin Y y (X ++ [p]) f (by rw [e]; simp) (by simpa using hn) (fun x hx => by
        rcases List.mem_append.mp hx with w | w
        · exact ne x w
        · rw [List.mem_singleton.mp w]; exact q)
      rw [List.length_append, ← nI_add] at this
      exact this
    unfold wp_J1_putVal_b134
    refine ⟨p, rfl, (fun w => by rw [p3] at w; cases w), fun y' hy' => ?_⟩
    rw [p3] at hy'
    cases hy'
    rw [p3]
    refine ⟨fun q => next q, fun q => ?_⟩
    have key : keyI h y = it h 23 c := (b2.1 y yL).1.1.key (q.trans hz)
    have fin2 := fin1 y (kb.inO hi y yL) key
    exact key_test (P := fun h' => wp_J1_putVal_b222 K h' (some m) (some v) l4 l5 (some y)) (Q := fun h' => wp_J1_putVal_b212 (wp_J1_putVal_b134 K f) K h' (some m) z (some c) (some v) l4 l5 (some t) (some y) (nI X.length)) hkk (fun _ => fin2) (fun w => absurd (spr_inj (hks.symm.trans (q.trans hz))) w)
theorem key_bin {h : Hp} {m n t i : Nat} {bn : Nat → List Nat} {O : List Nat} {z : Int32} {x : Nat} {key : Int32} (kb : MB h m n bn O) (ht : rf h 13 m = some t) (hz : z = spr key) (hzi : ix n z = i) (hx : x ∈ O) (e : keyI h x = key) : x ∈ bn i ∧ it h 0 x = z := by
  have hh : it h 0 x = z := by rw [(kb.ok x hx).1.hash, e, hz]
  obtain ⟨j, hj, hxj⟩ := mem_nodes.mp (kb.2.2.1.mem_iff.mp hx)
  have := (((kb.tab ht).1.2.2 j hj).2.1 x hxj).2
  rw [hh, hzi] at this
  rw [this]
  exact ⟨hxj, hh⟩
theorem s_put29 {h : Hp} {m n t C Q : Nat} {bn : Nat → List Nat} {O : List Nat} {z l4 l5 : Int32} {c v : Nat} {K : Option Nat → Hp → Prop} (k : MI h m n O) (kb : MB h m n bn O) (hl : O.length ≤ 1463) (ht : rf h 13 m = some t) (hz : z = spr (it h 23 c)) (kc : kd h c = 4 ∨ kd h c = 60) (kv : kd h v = 4 ∨ kd h v = 60) (B : Bud h n O (C + 2) (Q + 17))
    (fin1 : ∀ a ∈ O, keyI h a = it h 23 c → wp_J1_putVal_b222 K h (some m) (some v) l4 l5 (some a))
    (fin : ∀ h' n' O', MI h' m n' O' → Mst h h' m O O' → O'.map (pr h') = O.map (pr h) ++ [(it h 23 c, it h 23 v)] → Bud h' n' O' C Q → (∀ x ∈ O, keyI h x ≠ it h 23 c) → K none h') :
    wp_J1_putVal_b29 K h (some m) z (some c) (some v) l4 l5 (some t) (nI n) := by
  obtain ⟨T, n0, n1⟩ := kb.tab ht
  obtain ⟨x1, x2⟩ := ix_ok (n := n) z n0 (by omega)
  generalize hzi : ix n z = i at x1 x2
  obtain ⟨b1, b2⟩ := T.2.2 i x2
  have m0 : kd h m ≠ 0 := by rcases kb.1 with w | w <;> rw [w] <;> decide
  have lk0 := lkOf_ok h m
  have hO0 : ∀ x ∈ O, kd h x ≠ 0 := fun x hx => by have := kb.2.2.2.1 x hx; omega
  have mL : m ∉ bn i := fun w => kb.mO (kb.inO x2 m w)
  have none' : (∀ x ∈ bn i, it h 0 x ≠ z) → ∀ x ∈ O, keyI h x ≠ it h 23 c := fun ne x hx e => by
    obtain ⟨w1, w2⟩ := key_bin kb ht hz hzi hx e
    exact ne x w1 w2
  -- the end, for a new node
  have endN : ∀ h' a L', InsN (PH (bn i) t i) h h' m O a z (some c) (some v) → L'.Perm (a :: bn i) → rf h' (100 + i) t = L'.head? → Bin h' (lkOf h m) n i L' → nc h' = nc h + 1 → (ns h' ≤ ns h + 6 ∨ (kd h' a = 7 ∧ ns h' = ns h + 11)) → wp_J1_putVal_b259 K h' (some m) l5 := by
    intro h' a L' E p e b c1 c2
    have M2 := kb.ins ht x2 E p e b
    obtain ⟨S2, P2⟩ := ins_mst kb ht x2 kc kv E
    have ne : ∀ x ∈ bn i, it h 0 x ≠ z := fun x hx w => by
      have hd := b.2.1.perm p
      have := (List.pairwise_cons.mp hd).1 x hx
      rw [E.2.2.2.1.1, (E.keep (f := 0) (hO0 x (kb.inO x2 x hx)) (by omega) (fun q => by have := q.fl; omega)).2] at this
      exact this w.symm
    refine put_end k hl M2 S2 n0 P2 ?_ (bud_ins B (fun x hx => (E.1.1 x (hO0 x hx)).1) c1 c2) (fun h' n' O' q1 q2 q3 q4 => fin h' n' O' q1 q2 q3 q4 (none' ne))
    rw [(E.keep m0 (f := 15) (by omega) (fun q => by
      rcases q with q | q
      · exact mL q.1
      · omega)).2]
    exact k.2.1
  unfold wp_J1_putVal_b29
  refine ⟨t, rfl, i, x1, by rw [T.2.1]; exact x2, fun q => ?_, fun a0 ha0 => ?_⟩
  · have hb0 : bn i = [] := by
      rw [b1] at q
      cases e : bn i with
      | nil => rfl
      | cons x X => rw [e] at q; cases q
    refine newL (G := fun r h' => wp_J1_putVal_b59 K h' (some m) l5 r ((nI n - 1) &&& z) (some t)) kb (fun w => (k.2.2 w).1) (by have := B.rm; unfold Rm at this ⊢; omega) (fun a h1 N D c6 => ?_)
    have E1 : InsN (PH (bn i) t i) h h1 m O a z (some c) (some v) := N.insN (by omega) D
    have E2 : InsN (PH (bn i) t i) h (wR h1 (100 + i) t (some a)) m O a z (some c) (some v) := E1.chg ((Chg.refl (PH (bn i) t i) h1).wR _ (Or.inr ⟨rfl, rfl⟩)) (fun _ _ _ q => q) (fun f x q => q.fl)
    unfold wp_J1_putVal_b59
    refine ⟨t, rfl, i, x1, by rw [(E1.1.1 t (by have := T.1; omega)).2, T.2.1]; exact x2, ?_⟩
    rintro h2 rfl
    have ka : kd (wR h1 (100 + i) t (some a)) a = lkOf h m := N.2.1
    have nx : NXs (wR h1 (100 + i) t (some a)) 3 (bn i ++ [a]) none := by
      rw [hb0]
      exact ⟨by rw [rf_wR, if_neg (by omega), N.2.2.2.2.2.1.2.2.2.1]; rfl, trivial⟩
    have BN := bin_push b2 (fun x hx => by rw [hb0] at hx; cases hx) E2 hz kc kv hzi (by omega) ka (fun x hx => by rw [hb0] at hx; cases hx) nx
    exact endN _ a (bn i ++ [a]) E2 List.perm_append_comm (by rw [rf_wR, if_pos ⟨rfl, rfl⟩, hb0]; rfl) BN N.2.2.2.1 (Or.inl c6)
  · have hL : (bn i).head? = some a0 := by rw [← b1]; exact ha0
    have aL : a0 ∈ bn i := List.mem_of_mem_head? hL
    rw [ha0]
    have b104 : it h 0 a0 ≠ z → wp_J1_putVal_b104 K h (some m) z (some c) (some v) l4 l5 (some t) (some a0) := fun ne0 => by
      unfold wp_J1_putVal_b104
      refine ⟨fun a e hk7 => ⟨(fun b hb => by cases hb; cases e; exact hk7), ?_⟩, fun a e hk5 => ?_, (fun w => by cases w)⟩
      · cases e
        rcases b2.2.2.2 with w | ⟨w1, w2, r, S, sub, w3, w4, w5⟩
        · have := w a0 aL
          simp at hk7
          omega
        · refine s_putTreeVal lk0 b2 w1 w2 T.1 T.2.1 x2 b1 w3 w4 w5 (kb.inO x2) hz kc kv hzi kb.1 kb.mO kb.2.1 hO0 (fun w => (k.2.2 w).1) kb.2.2.2.2.2.1 (by have := B.rm; unfold Rm at this ⊢; omega) aL (fun a ha e _ => ?_) (fun h' a L' E ka p e b c1 c2 _ => ?_)
          · exact fin1 a (kb.inO x2 a ha) ((b2.1 a ha).1.1.key (e.trans hz))
          · unfold wp_J1_putVal_b222
            exact ⟨fun _ => endN h' a L' E p e b c1 (Or.inr ⟨ka, c2⟩), (fun a w => by cases w)⟩
      · cases e
        rcases b2.2.2.2 with w | ⟨w1, w2⟩
        · obtain ⟨Y, hY⟩ : ∃ Y, bn i = a0 :: Y := by
            cases e : bn i with
            | nil => rw [e] at hL; cases hL
            | cons x X => rw [e] at hL; cases hL; exact ⟨X, rfl⟩
          exact ⟨Y.length + 1, put_loop k kb hl ht x2 w hz kc kv hzi B fin1 (fun h' n' O' q1 q2 q3 q4 q5 => fin h' n' O' q1 q2 q3 q4 (none' q5)) Y a0 [] _ hY (Nat.le_refl _) (fun x hx => by
            have : x = a0 := by simpa using hx
            rw [this]; exact ne0)⟩
        · have := w1 a0 aL
          simp at hk5
          omega
    refine ⟨fun q => b104 q, fun q => ?_⟩
    obtain ⟨kk, hkk, hk4, hks⟩ := (b2.1 a0 aL).1.1
    have fin2 := fin1 a0 (kb.inO x2 a0 aL) ((b2.1 a0 aL).1.1.key (q.trans hz))
    exact key_test (P := fun h' => wp_J1_putVal_b97 K h' (some m) (some v) l4 l5 (some a0)) (Q := fun h' => wp_J1_putVal_b104 K h' (some m) z (some c) (some v) l4 l5 (some t) (some a0)) hkk (fun _ => fin2) (fun w => absurd (spr_inj (hks.symm.trans (q.trans hz))) w)
theorem s_putVal {h : Hp} {m n C Q : Nat} {O : List Nat} {z l4 l5 : Int32} {c v : Nat} {K : Option Nat → Hp → Prop} (k : MI h m n O) (hl : O.length ≤ 1463) (hz : z = spr (it h 23 c)) (kc : kd h c = 4 ∨ kd h c = 60) (kv : kd h v = 4 ∨ kd h v = 60) (B : Bud h n O (C + 2) (Q + 17))
    (fin1 : ∀ a ∈ O, keyI h a = it h 23 c → ∀ h', MI h' m n (acc h m O a) → Mst h h' m O (acc h m O a) → (∀ x ∈ O, pr h' x = if x = a ∧ l4 = 0 then (keyI h a, it h 23 v) else pr h x) → Bud h' n (acc h m O a) C Q → K (rf h 2 a) h')
    (fin0 : (∀ x ∈ O, keyI h x ≠ it h 23 c) → ∀ h' n' O', MI h' m n' O' → Mst h h' m O O' → O'.map (pr h') = O.map (pr h) ++ [(it h 23 c, it h 23 v)] → Bud h' n' O' C Q → K none h') :
    wp_J1_putVal h (some m) z (some c) (some v) l4 l5 K := by
  obtain ⟨bn, kb⟩ := id k.1
  have m0 : kd h m ≠ 0 := by rcases kb.1 with w | w <;> rw [w] <;> decide
  unfold wp_J1_putVal
  refine ⟨m, rfl, fun q => ?_, fun t ht hlt => ⟨fun _ => ?_, fun w => ?_⟩⟩
  · have hn0 : n = 0 := by
      rcases kb.2.2.2.2.1 with w | ⟨e, t, w1, w2, w3, w4⟩
      · exact w.1
      · rw [q] at w3; cases w3
    subst hn0
    have hO : O = [] := List.eq_nil_of_length_eq_zero kb.2.2.1.length_eq
    subst hO
    unfold wp_J1_putVal_b19
    refine ⟨m, rfl, s_resizeB kb (by omega) (by simp) B (fun h' s n' bn' t M E r r0 p0 p1 z1 z2 z3 B' _ => ?_)⟩
    have SM : Mst h h' m [] [] := E.mst (fun t' ht' => by rw [r] at ht'; cases ht'; exact Or.inr r0) m0 kb.mO kb.mt
    have I := SM.int k
    have g1 : ∀ f, f = 15 ∨ f = 21 ∨ f = 22 → it h' f m = it h f m := fun f hf => (E.keep m0 (by omega) (fun q => by
      rcases q with q | q | q
      · omega
      · cases q.1
      · exact kb.mt q.1)).2
    have M' : MI h' m n' [] := ⟨⟨bn', M⟩, by rw [g1 15 (by omega)]; exact k.2.1, by rw [(E.1.1 m m0).1, g1 21 (by omega), g1 22 (by omega)]; exact k.2.2⟩
    have kc' : kd h' c = 4 ∨ kd h' c = 60 := by rw [(I c kc).1]; exact kc
    have kv' : kd h' v = 4 ∨ kd h' v = 60 := by rw [(I v kv).1]; exact kv
    unfold wp_J1_putVal_b23
    refine ⟨t, rfl, fun _ => ?_⟩
    rw [(M.tab r).1.2.1]
    refine s_put29 M' M (by simp) r (by rw [(I c kc).2]; exact hz) kc' kv' B' (fun a ha => by cases ha) (fun h2 n2 O2 q1 q2 q3 q4 _ => fin0 (fun x hx => by cases hx) h2 n2 O2 q1 (SM.trans q2) ?_ q4)
    rw [q3, (I c kc).2, (I v kv).2]
    rfl
  · rw [ht, (kb.tab ht).1.2.1]
    refine s_put29 k kb hl ht hz kc kv B (fun a ha e => s_put222 k ha kv (B.mono (c' := C) (q' := Q) (by omega) (by omega)) (fun h' q1 q2 q3 q4 => fin1 a ha e h' q1 q2 q3 q4)) (fun h' n' O' q1 q2 q3 q4 q5 => fin0 q5 h' n' O' q1 q2 q3 q4)
  · obtain ⟨T, n0, n1⟩ := kb.tab ht
    rw [T.2.1] at w
    have := nI_inj (a := n) (b := 0) (by omega) (by omega) w
    omega
