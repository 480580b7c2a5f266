/-! REMOVENODE -/
set_option maxRecDepth 100000
theorem Tab.po {h h' : Hp} {lk t n m : Nat} {bn : Nat → List Nat} {O : List Nat} (T : Tab h lk t n bn) (c : Chg (PO m O) h h') : Tab h' lk t n bn := by
  have g : ∀ f b, f ≠ 15 → f ≠ 16 → f ≠ 19 → f ≠ 20 → f ≠ 4 → f ≠ 5 → rf h' f b = rf h f b ∧ it h' f b = it h f b := fun f b _ _ _ _ _ _ => ⟨c.rf (fun q => by have := q.fl; omega), c.it (fun q => by have := q.fl; omega)⟩
  refine ⟨by rw [c.1]; exact T.1, by rw [c.2.1]; exact T.2.1, fun i hi => ?_⟩
  obtain ⟨z1, z2⟩ := T.2.2 i hi
  exact ⟨by rw [(g (100 + i) t (by omega) (by omega) (by omega) (by omega) (by omega) (by omega)).1]; exact z1, z2.fra (c.int (fun x q => by have := q.fl; omega)) (fun a _ => c.1 a) (fun a _ => (g 0 a (by omega) (by omega) (by omega) (by omega) (by omega) (by omega)).2) (fun a _ f hf => (g f a (by omega) (by omega) (by omega) (by omega) (by omega) (by omega)).1)⟩
theorem s_anr3 {h : Hp} {m p : Nat} {X Y : List Nat} {K : Hp → Prop} (d : DL h m (X ++ p :: Y)) (nd : (X ++ p :: Y).Nodup) (mO : m ∉ X ++ p :: Y) (kp : kd h p = 6 ∨ kd h p = 7) (fin : ∀ h', Chg (PO m (X ++ p :: Y)) h h' → DL h' m (X ++ Y) → it h' 15 m = it h 15 m → K h') : wp_J2_afterNodeRemoval h (some m) (some p) K := by
  obtain ⟨p4, p5⟩ := d.at
  have nd' := List.nodup_append.mp nd
  have pX : p ∉ X := fun w => nd'.2.2 p w p List.mem_cons_self rfl
  have pY : p ∉ Y := (List.nodup_cons.mp nd'.2.1).1
  have XY : ∀ a ∈ X, a ∉ Y := fun a ha hy => nd'.2.2 a ha a (List.mem_cons_of_mem _ hy) rfl
  have inO : ∀ x, x ∈ X ∨ x ∈ Y → x ∈ X ++ p :: Y := fun x hx => by rcases hx with w | w <;> simp [w]
  have pin : p ∈ X ++ p :: Y := by simp
  have mp : m ≠ p := fun w => mO (w ▸ pin)
  have nXY : ∀ a ∈ X ++ Y, a ≠ p := fun a ha w => by
    rw [w] at ha
    rcases List.mem_append.mp ha with z | z
    · exact pX z
    · exact pY z
  unfold wp_J2_afterNodeRemoval
  refine ⟨fun a ha => by cases ha; rcases kp with w | w <;> rw [w] <;> decide, p, rfl, ?_⟩
  rintro h1 rfl h2 rfl
  have c2 : Chg (PO m (X ++ p :: Y)) h (wR (wR h 5 p none) 4 p none) := ((Chg.refl _ h).wR _ (Or.inr ⟨pin, by omega⟩)).wR _ (Or.inr ⟨pin, by omega⟩)
  have o2 : ∀ f a, a ≠ p → rf (wR (wR h 5 p none) 4 p none) f a = rf h f a := fun f a z => by rw [rf_wR, if_neg (fun y => z y.2), rf_wR, if_neg (fun y => z y.2)]
  have i2 : it (wR (wR h 5 p none) 4 p none) 15 m = it h 15 m := rfl
  rw [p4, p5]
  generalize wR (wR h 5 p none) 4 p none = h2 at c2 o2 i2
  -- the second half
  have b45 : ∀ h3, Chg (PO m (X ++ p :: Y)) h h3 → it h3 15 m = it h 15 m → (∀ b, X.getLast? = some b → rf h3 5 b = Y.head?) → rf h3 19 m = (if X = [] then Y.head? else rf h 19 m) → rf h3 20 m = rf h 20 m → (∀ b ∈ X ++ Y, X.getLast? ≠ some b → rf h3 5 b = rf h 5 b) → (∀ b ∈ X ++ Y, rf h3 4 b = rf h 4 b) → wp_J2_afterNodeRemoval_b45 K h3 (some m) X.getLast? Y.head? := by
    intro h3 c3 i3 e5 e19 e20 s5 s4
    unfold wp_J2_afterNodeRemoval_b45
    refine ⟨fun w => ⟨m, rfl, ?_⟩, fun y hy => ?_⟩
    · have hY : Y = [] := by cases Y with
        | nil => rfl
        | cons y Y => cases w
      rintro h4 rfl
      unfold wp_J2_afterNodeRemoval_b64
      refine fin _ (c3.wR _ (Or.inl ⟨rfl, by omega⟩)) (d.del nd (fun b hb => by rw [rf_wR, if_neg (by omega)]; exact e5 b hb) (fun c hc => by rw [hY] at hc; cases hc) (by rw [rf_wR, if_neg (by omega)]; exact e19) (by rw [if_pos hY, rf_wR, if_pos ⟨rfl, rfl⟩]) (fun b hb hn => by rw [rf_wR, if_neg (by omega)]; exact s5 b hb hn) (fun b hb _ => by rw [rf_wR, if_neg (by omega)]; exact s4 b hb)) i3
    · have yY : y ∈ Y := List.mem_of_mem_head? hy
      have Yne : Y ≠ [] := fun w => by rw [w] at yY; cases yY
      rintro h4 rfl
      unfold wp_J2_afterNodeRemoval_b64
      refine fin _ (c3.wR _ (Or.inr ⟨inO y (Or.inr yY), by omega⟩)) (d.del nd (fun b hb => by rw [rf_wR, if_neg (by omega)]; exact e5 b hb) (fun c hc => ?_) (by rw [rf_wR, if_neg (by omega)]; exact e19) (by rw [if_neg Yne, rf_wR, if_neg (by omega)]; exact e20) (fun b hb hn => by rw [rf_wR, if_neg (by omega)]; exact s5 b hb hn) (fun b hb hn => ?_)) i3
      · rw [hy] at hc; cases hc
        rw [rf_wR, if_pos ⟨rfl, rfl⟩]
      · rw [rf_wR, if_neg (fun (z : 4 = 4 ∧ b = y) => hn (by rw [z.2]; exact hy))]
        exact s4 b hb
  refine ⟨fun w => ⟨m, rfl, ?_⟩, fun x hx => ?_⟩
  · have hX : X = [] := by simpa using w
    rintro h3 rfl
    refine b45 _ (c2.wR _ (Or.inl ⟨rfl, by omega⟩)) i2 (fun b hb => by rw [hX] at hb; cases hb) (by rw [if_pos hX, rf_wR, if_pos ⟨rfl, rfl⟩]) (by rw [rf_wR, if_neg (by omega)]; exact o2 20 m mp) (fun b hb _ => by rw [rf_wR, if_neg (by omega)]; exact o2 5 b (nXY b hb)) (fun b hb => by rw [rf_wR, if_neg (by omega)]; exact o2 4 b (nXY b hb))
  · have xX : x ∈ X := mem_last hx
    rintro h3 rfl
    refine b45 _ (c2.wR _ (Or.inr ⟨inO x (Or.inl xX), by omega⟩)) i2 (fun b hb => by rw [hx] at hb; cases hb; rw [rf_wR, if_pos ⟨rfl, rfl⟩]) (by rw [if_neg (fun w => by rw [w] at xX; cases xX), rf_wR, if_neg (by omega)]; exact o2 19 m mp) (by rw [rf_wR, if_neg (by omega)]; exact o2 20 m mp) (fun b hb hn => by rw [rf_wR, if_neg (fun (z : 5 = 5 ∧ b = x) => hn (by rw [z.2]; exact hx))]; exact o2 5 b (nXY b hb)) (fun b hb => by rw [rf_wR, if_neg (by omega)]; exact o2 4 b (nXY b hb))
theorem flt_map {p : Nat} {s : Nat → Nat} {O : List Nat} (nd : (O.map s).Nodup) (hp : p ∈ O) (sp : s p = p) : flt p (O.map s) = (flt p O).map s := by
  have inj : ∀ (A : List Nat), (A.map s).Nodup → p ∈ A → ∀ x ∈ A, s x = p → x = p := by
    intro A
    induction A with
    | nil => intro _ h; cases h
    | cons a A ih =>
      intro hn hp x hx e
      rw [List.map_cons, List.nodup_cons] at hn
      rcases List.mem_cons.mp hx with w | w <;> rcases List.mem_cons.mp hp with z | z
      · rw [w, z]
      · exact absurd (List.mem_map.mpr ⟨p, z, by rw [sp, ← e, w]⟩) hn.1
      · exact absurd (List.mem_map.mpr ⟨x, w, by rw [e, ← sp, z]⟩) hn.1
      · exact ih hn.2 z x w e
  unfold flt
  rw [List.filter_map]
  congr 1
  refine List.filter_congr (fun x hx => ?_)
  show decide (s x ≠ p) = decide (x ≠ p)
  by_cases w : x = p
  · rw [w, sp]
  · have : s x ≠ p := fun z => w (inj O nd hp x hx z)
    rw [decide_eq_true this, decide_eq_true w]
theorem MB.rem {h h1 h' : Hp} {m n t i p : Nat} {bn : Nat → List Nat} {O L' : List Nat} {s : Nat → Nat} (k : MB h m n bn O) (ht : rf h 13 m = some t) (hi : i < n) (hp : p ∈ bn i) (E : Evo (PH (bn i) t i) h h1 m O s) (sx : ∀ x, x ∉ bn i ∨ x = p → s x = x) (pm : L'.Perm ((flt p (bn i)).map s)) (e : rf h1 (100 + i) t = L'.head?) (b : Bin h1 (lkOf h m) n i L') (c : Chg (PO m (O.map s)) h1 h') (d : kd h m = 3 → DL h' m ((flt p O).map s)) : MB h' m n (updB bn i L') ((flt p O).map s) := by
  obtain ⟨k1, k2, k3, k4, k5, k6, k7, k8⟩ := id k
  have m0 : kd h m ≠ 0 := by rcases k1 with w | w <;> rw [w] <;> decide
  have em := (E.1.1 m m0).1
  have el : lkOf h' m = lkOf h m := by unfold lkOf; rw [c.1, em]
  obtain ⟨T, n0, n1⟩ := k.tab ht
  have lk0 := lkOf_ok h m
  have bi := (T.2.2 i hi).2
  have mL : m ∉ bn i := fun w => k.mO (k.inO hi m w)
  have tL : t ∉ bn i := fun w => by clear k5 k8; have := bi.kd lk0 w; have := T.1; omega
  have gm : ∀ f, f = 13 ∨ f = 17 ∨ f = 18 → rf h' f m = rf h f m ∧ it h' f m = it h f m := fun f hf => by
    have w := E.keep (f := f) m0 (by omega) (fun q => by
      rcases q with q | q
      · exact mL q.1
      · exact k.mt (by rw [ht, q.1]))
    exact ⟨(c.rf (fun q => by have := q.fl; omega)).trans w.1, (c.it (fun q => by have := q.fl; omega)).trans w.2⟩
  have T1 : Tab h1 (lkOf h m) t n (updB bn i L') := T.upd lk0 hi (by omega) E.1 (E.int PH.no) (fun b f h1 h2 hb hf => by
    have nP : ∀ f, ¬ PH (bn i) t i f b := fun f q => by
      rcases q with q | q
      · exact hb q.1
      · rw [q.1] at h2; have := T.1; omega
    exact ⟨(E.keep (by omega) (by omega) (nP f)).1, (E.keep (by omega) (by omega) (nP 0)).2⟩) (fun j hj hji => (E.keep (by have := T.1; omega) (by omega) (fun q => by
    rcases q with q | q
    · exact tL q.1
    · omega)).1) e b
  have T2 := T1.po c
  have pO : p ∈ O := k.inO hi p hp
  have pp : ((flt p O).map s).Perm (nodes n (updB bn i L')) := by
    obtain ⟨A, B, e1, e2⟩ := nodes_updB (bn := bn) (L := L') hi
    have q1 : O.Perm (bn i ++ (A ++ B)) := by
      refine k3.trans ?_
      rw [e1, List.append_assoc]
      exact List.perm_append_comm_assoc A (bn i) B
    have nd := q1.nodup_iff.mp k2
    have off : ∀ a ∈ A ++ B, a ∉ bn i := fun a ha hb => (List.nodup_append.mp nd).2.2 a hb a ha rfl
    have f1 : flt p (A ++ B) = A ++ B := List.filter_eq_self.mpr (fun a ha => decide_eq_true (fun w => off a ha (w ▸ hp)))
    have m1 : (A ++ B).map s = A ++ B := by
      rw [List.map_congr_left (f := s) (g := id) (fun a ha => sx a (Or.inl (off a ha)))]; simp
    have q2 : ((flt p O).map s).Perm ((flt p (bn i)).map s ++ (A ++ B)) := by
      refine ((flt_perm q1).map s).trans ?_
      unfold flt at f1 ⊢
      rw [List.filter_append, f1, List.map_append, m1]
    refine q2.trans ((pm.symm.append_right _).trans ?_)
    rw [e2, List.append_assoc]
    exact (List.perm_append_comm_assoc A L' B).symm
  have eqf : flt p (O.map s) = (flt p O).map s := flt_map E.2.2.1 pO (sx p (Or.inr rfl))
  refine ⟨by rw [c.1, em]; exact k1, ?_, pp, fun a ha => ?_, ?_, fun w => d (by rw [← em, ← c.1]; exact w), by rw [(gm 18 (by omega)).2]; exact k7, ?_⟩
  · rw [← eqf]; exact E.2.2.1.filter _
  · obtain ⟨j, hj, ha⟩ := mem_nodes.mp (pp.mem_iff.mp ha)
    exact (T2.2.2 j hj).2.kd lk0 ha
  · rcases k5 with w | ⟨ee, t1, w1, w2, w3, w4⟩
    · omega
    · rw [ht] at w3; cases w3
      exact Or.inr ⟨ee, t, w1, w2, by rw [(gm 13 (by omega)).1]; exact ht, by rw [el]; exact T2⟩
  · unfold TH at k8 ⊢
    rw [(gm 17 (by omega)).2]; exact k8

theorem map_pr {h h' : Hp} {s : Nat → Nat} {A : List Nat} (hA : ∀ x ∈ A, pr h' (s x) = pr h x) : (A.map s).map (pr h') = A.map (pr h) := by
  rw [List.map_map]
  exact List.map_congr_left hA
/-- the end of removeNode -/
theorem s_rem260 {h h1 : Hp} {m n t i p C Q : Nat} {bn : Nat → List Nat} {O L' : List Nat} {s : Nat → Nat} {K : Option Nat → Hp → Prop} (k : MI h m n O) (kb : MB h m n bn O) (hl : O.length ≤ 1464) (ht : rf h 13 m = some t) (hi : i < n) (hp : p ∈ bn i) (E : Evo (PH (bn i) t i) h h1 m O s) (sx : ∀ x, x ∉ bn i ∨ x = p → s x = x) (pm : L'.Perm ((flt p (bn i)).map s)) (e : rf h1 (100 + i) t = L'.head?) (b : Bin h1 (lkOf h m) n i L')
    (B : nc h1 + lc h1 ((flt p O).map s) + 3000 * rk n + C ≤ 679679 ∧ ns h1 + 11 * lc h1 ((flt p O).map s) + 40000 * rk n + Q ≤ 7063211)
    (fin : ∀ h' O', MI h' m n O' → MB h' m n (updB bn i L') O' → Mst h h' m O O' → O'.map (pr h') = (flt p O).map (pr h) → rf h' 2 p = rf h 2 p → (s = id → O' = flt p O ∧ ∀ x, kd h' x = kd h1 x) → Bud h' n O' C Q → K (some p) h') : wp_J1_removeNode_b260 K h1 (some m) (some p) := by
  have m0 : kd h m ≠ 0 := by rcases kb.1 with w | w <;> rw [w] <;> decide
  have pO : p ∈ O := kb.inO hi p hp
  have p0 : kd h p ≠ 0 := by have := kb.2.2.2.1 p pO; omega
  have mL : m ∉ bn i := fun w => kb.mO (kb.inO hi m w)
  have mm : ∀ f, f ≠ 4 ∧ f ≠ 5 ∧ f ≠ 19 ∧ f ≠ 20 → rf h1 f m = rf h f m ∧ it h1 f m = it h f m := fun f hf => E.keep m0 hf (fun q => by
    rcases q with q | q
    · exact mL q.1
    · exact kb.mt (by rw [ht, q.1]))
  have sp : s p = p := sx p (Or.inr rfl)
  have eqf : flt p (O.map s) = (flt p O).map s := flt_map E.2.2.1 pO sp
  have pin : p ∈ O.map s := List.mem_map.mpr ⟨p, pO, sp⟩
  obtain ⟨X, Y, eO⟩ := split_at pin
  have ndm := E.2.2.1
  rw [eO] at ndm
  have eXY : (flt p O).map s = X ++ Y := by rw [← eqf, eO, flt_mid ndm]
  have lenO : X.length + (Y.length + 1) = O.length := by
    have := congrArg List.length eO
    simpa using this.symm
  have mOs : m ∉ O.map s := fun w => by
    obtain ⟨y, hy, ey⟩ := List.mem_map.mp w
    rcases (E.2.1 y hy).1 with z | z
    · exact kb.mO (by rw [← ey, z]; exact hy)
    · rw [ey] at z; exact m0 z
  have I1 : IntS h h1 := E.int PH.no
  have em := (E.1.1 m m0).1
  -- what is left to show of the last state
  have last : ∀ h', Chg (PO m (O.map s)) h1 h' → it h' 15 m = it h1 15 m - 1 → (kd h m = 3 → DL h' m (X ++ Y)) → K (some p) h' := by
    intro h' c e15 d
    have g : ∀ f b, f ≠ 15 → f ≠ 16 → f ≠ 19 → f ≠ 20 → f ≠ 4 → f ≠ 5 → rf h' f b = rf h1 f b ∧ it h' f b = it h1 f b := fun f b _ _ _ _ _ _ => ⟨c.rf (fun q => by have := q.fl; omega), c.it (fun q => by have := q.fl; omega)⟩
    have M' := kb.rem ht hi hp E sx pm e b c (fun w => by rw [eXY]; exact d w)
    have I2 : IntS h1 h' := c.int (fun x q => by have := q.fl; omega)
    have lc' : lc h' ((flt p O).map s) = lc h1 ((flt p O).map s) := lc_frame (fun x _ => c.1 x)
    refine fin h' ((flt p O).map s) ⟨⟨_, M'⟩, ?_, ?_⟩ M' ⟨E.1.trans c.ex, fun f x x0 xm xO xt => ?_, fun x hx => ?_, fun t' ht' => Or.inl ?_, fun f hf => ?_⟩ ?_ ?_ (fun w => ⟨by rw [w]; simp, c.1⟩) ?_
    · rw [e15, (mm 15 (by omega)).2, k.2.1, ← lenO, eXY, List.length_append, nI_pred1 (by omega)]
      congr 1
    · rw [c.1, em, (g 22 m (by omega) (by omega) (by omega) (by omega) (by omega) (by omega)).2, (g 21 m (by omega) (by omega) (by omega) (by omega) (by omega) (by omega)).2, (mm 22 (by omega)).2, (mm 21 (by omega)).2]
      exact k.2.2
    · have w1 : rf h1 f x = rf h f x ∧ it h1 f x = it h f x := by
        rcases E.2.2.2.1 f x x0 with q | q
        · rcases q with q | q | q
          · exact absurd q.1 xm
          · exact absurd q.1 xO
          · rcases q with q | q
            · exact absurd (kb.inO hi x q.1) xO
            · exact absurd (by rw [q.1]; exact ht) xt
        · exact q
      rcases c.2.2.2.2 f x with q | q
      · rcases q with q | q
        · exact absurd q.1 xm
        · obtain ⟨y, hy, ey⟩ := List.mem_map.mp q.1
          rcases (E.2.1 y hy).1 with z | z
          · exact absurd (by rw [← ey, z]; exact hy) xO
          · rw [ey] at z; exact absurd z x0
      · exact ⟨q.1.trans w1.1, q.2.trans w1.2⟩
    · obtain ⟨y, hy, rfl⟩ := List.mem_map.mp hx
      have yO := (mem_flt.mp hy).1
      rcases (E.2.1 y yO).1 with z | z
      · rw [z]; exact Or.inl yO
      · exact Or.inr z
    · rw [← (mm 13 (by omega)).1, ← (g 13 m (by omega) (by omega) (by omega) (by omega) (by omega) (by omega)).1]; exact ht'
    · exact ⟨(g f m (by omega) (by omega) (by omega) (by omega) (by omega) (by omega)).1.trans (mm f (by omega)).1, (g f m (by omega) (by omega) (by omega) (by omega) (by omega) (by omega)).2.trans (mm f (by omega)).2⟩
    · refine map_pr (fun x hx => ?_)
      have xO := (mem_flt.mp hx).1
      obtain ⟨-, z2, z3, z4, z5⟩ := E.2.1 x xO
      exact pr_fra (kb.ok x xO) (I1.trans I2) ((g 1 _ (by omega) (by omega) (by omega) (by omega) (by omega) (by omega)).1.trans z4) ((g 2 _ (by omega) (by omega) (by omega) (by omega) (by omega) (by omega)).1.trans z5)
    · rw [(g 2 p (by omega) (by omega) (by omega) (by omega) (by omega) (by omega)).1, (E.keep p0 (f := 2) (by omega) (fun q => by have := q.fl; omega)).1]
    · unfold Bud
      rw [lc', c.2.2.1, c.2.2.2.1]
      exact B
  unfold wp_J1_removeNode_b260
  refine ⟨m, rfl, ?_⟩
  rintro h2 rfl h3 rfl
  have c3 : Chg (PO m (O.map s)) h1 (wI (wI h1 16 m (it h1 16 m + 1)) 15 m (it (wI h1 16 m (it h1 16 m + 1)) 15 m - 1)) := ((Chg.refl _ h1).wI _ (Or.inl ⟨rfl, by omega⟩)).wI _ (Or.inl ⟨rfl, by omega⟩)
  have f15 : it (wI (wI h1 16 m (it h1 16 m + 1)) 15 m (it (wI h1 16 m (it h1 16 m + 1)) 15 m - 1)) 15 m = it h1 15 m - 1 := by rw [it_wI, if_pos ⟨rfl, rfl⟩, it_wI, if_neg (by omega)]
  have R3 : ∀ f b, rf (wI (wI h1 16 m (it h1 16 m + 1)) 15 m (it (wI h1 16 m (it h1 16 m + 1)) 15 m - 1)) f b = rf h1 f b := fun _ _ => rfl
  generalize wI (wI h1 16 m (it h1 16 m + 1)) 15 m (it (wI h1 16 m (it h1 16 m + 1)) 15 m - 1) = h3 at c3 f15 R3
  unfold wp_J1_removeNode_b286
  rcases kb.1 with w | w
  · left
    refine ⟨by rw [c3.1, em]; exact w, ?_⟩
    unfold wp_J1_afterNodeRemoval
    exact fun _ => last h3 c3 f15 (fun q => by omega)
  · right
    refine ⟨by rw [c3.1, em]; exact w, ?_⟩
    have d1 : DL h1 m (X ++ p :: Y) := by rw [← eO]; exact E.2.2.2.2 w (kb.2.2.2.2.2.1 w)
    have d3 : DL h3 m (X ++ p :: Y) := d1.fra (R3 19 m) (R3 20 m) (fun a _ => R3 5 a) (fun a _ => R3 4 a)
    refine s_anr3 d3 ndm (by rw [← eO]; exact mOs) (by rw [c3.1, (E.1.1 p p0).1]; exact kb.k67 w p pO) (fun h' c4 d4 e4 _ => ?_)
    rw [← eO] at c4
    exact last h' (c3.trans c4) (by rw [e4, f15]) (fun _ => d4)
