/-! A MAP'S STATE AND STEPS; afterNodeAccess -/
set_option maxRecDepth 100000
def MI (h : Hp) (m n : Nat) (O : List Nat) : Prop := (∃ bn, MB h m n bn O) ∧ it h 15 m = nI O.length ∧ (kd h m = 3 → it h 22 m = 0 ∧ (it h 21 m = 0 ∨ it h 21 m = 1))
/-- a step of the map m: its order O becomes O'; all that is not of the map stays -/
def Mst (h h' : Hp) (m : Nat) (O O' : List Nat) : Prop :=
  Ex h h' ∧ (∀ f b, kd h b ≠ 0 → b ≠ m → b ∉ O → rf h 13 m ≠ some b → rf h' f b = rf h f b ∧ it h' f b = it h f b) ∧
  (∀ x ∈ O', x ∈ O ∨ kd h x = 0) ∧ (∀ t, rf h' 13 m = some t → rf h 13 m = some t ∨ kd h t = 0) ∧
  (∀ f, f = 11 ∨ f = 14 ∨ f = 18 ∨ f = 21 ∨ f = 22 → rf h' f m = rf h f m ∧ it h' f m = it h f m)
theorem Ex.old {h h' : Hp} (e : Ex h h') {x : Nat} (q : kd h' x = 0) : kd h x = 0 := by
  by_cases w : kd h x = 0
  · exact w
  · have := (e.1 x w).1
    rw [q] at this
    exact this.symm
theorem Mst.refl (h : Hp) (m : Nat) (O : List Nat) : Mst h h m O O := ⟨Ex.refl h, fun _ _ _ _ _ _ => ⟨rfl, rfl⟩, fun _ hx => Or.inl hx, fun _ ht => Or.inl ht, fun _ _ => ⟨rfl, rfl⟩⟩
theorem Mst.trans {h h1 h2 : Hp} {m : Nat} {O O1 O2 : List Nat} (a : Mst h h1 m O O1) (b : Mst h1 h2 m O1 O2) : Mst h h2 m O O2 := by
  obtain ⟨a1, a2, a3, a4, a5⟩ := a
  obtain ⟨b1, b2, b3, b4, b5⟩ := b
  refine ⟨a1.trans b1, fun f x x0 xm xO xt => ?_, fun x hx => ?_, fun t ht => ?_, fun f hf => ⟨(b5 f hf).1.trans (a5 f hf).1, (b5 f hf).2.trans (a5 f hf).2⟩⟩
  · obtain ⟨e1, e2⟩ := a2 f x x0 xm xO xt
    obtain ⟨e3, e4⟩ := b2 f x (by rw [(a1.1 x x0).1]; exact x0) xm (fun w => by
      rcases a3 x w with w | w
      · exact xO w
      · exact x0 w) (fun w => by
      rcases a4 x w with w | w
      · exact xt w
      · exact x0 w)
    exact ⟨e3.trans e1, e4.trans e2⟩
  · rcases b3 x hx with w | w
    · exact a3 x w
    · exact Or.inr (a1.old w)
  · rcases b4 t ht with w | w
    · exact a4 t w
    · exact Or.inr (a1.old w)
theorem MB.tabk {h : Hp} {m n t : Nat} {bn : Nat → List Nat} {O : List Nat} (k : MB h m n bn O) (ht : rf h 13 m = some t) : kd h t = 51 := by
  rcases k.2.2.2.2.1 with w | ⟨e, t1, w1, w2, w3, w4⟩
  · rw [w.2] at ht; cases ht
  · rw [ht] at w3; cases w3; exact w4.1
theorem Mst.int {h h' : Hp} {m n : Nat} {O O' : List Nat} (a : Mst h h' m O O') (k : MI h m n O) : IntS h h' := fun b hb => by
  obtain ⟨⟨bn, k⟩, -⟩ := k
  have b0 : kd h b ≠ 0 := by omega
  refine ⟨(a.1.1 b b0).1, (a.2.1 23 b b0 (fun w => ?_) (fun w => ?_) (fun w => ?_)).2⟩
  · rw [w] at hb; have := k.1; omega
  · have := k.2.2.2.1 b w; omega
  · have := k.tabk w; omega
theorem Evo.mst {h h' : Hp} {m : Nat} {O : List Nat} {s : Nat → Nat} (E : Evo (PZ h m O) h h' m O s) (ht : ∀ t, rf h' 13 m = some t → rf h 13 m = some t ∨ kd h t = 0) (hm : kd h m ≠ 0) (mO : m ∉ O) (mt : rf h 13 m ≠ some m) : Mst h h' m O (O.map s) := by
  refine ⟨E.1, fun f b b0 bm bO bt => ?_, fun x hx => ?_, ht, fun f hf => E.keep hm (by omega) (fun q => ?_)⟩
  · rcases E.2.2.2.1 f b b0 with q | q
    · rcases q with q | q | q
      · exact absurd q.1 bm
      · exact absurd q.1 bO
      · rcases q with q | q | q
        · exact absurd q.1 bm
        · exact absurd q.1 bO
        · exact absurd q.1 bt
    · exact q
  · obtain ⟨y, hy, rfl⟩ := List.mem_map.mp hx
    rcases (E.2.1 y hy).1 with w | w
    · rw [w]; exact Or.inl hy
    · exact Or.inr w
  · rcases q with q | q | q
    · omega
    · exact mO q.1
    · exact mt q.1
def PO (m : Nat) (O : List Nat) (f b : Nat) : Prop := (b = m ∧ (f = 15 ∨ f = 16 ∨ f = 19 ∨ f = 20)) ∨ (b ∈ O ∧ (f = 4 ∨ f = 5))
theorem PO.fl {m : Nat} {O : List Nat} {f b : Nat} (q : PO m O f b) : f = 15 ∨ f = 16 ∨ f = 19 ∨ f = 20 ∨ f = 4 ∨ f = 5 := by rcases q with q | q <;> omega
theorem MB.ord {h h' : Hp} {m n : Nat} {bn : Nat → List Nat} {O O' : List Nat} (k : MB h m n bn O) (c : Chg (PO m O) h h') (p : O'.Perm O) (d : kd h m = 3 → DL h' m O') : MB h' m n bn O' := by
  obtain ⟨k1, k2, k3, k4, k5, k6, k7, k8⟩ := k
  have g : ∀ f b, f ≠ 15 → f ≠ 16 → f ≠ 19 → f ≠ 20 → f ≠ 4 → f ≠ 5 → rf h' f b = rf h f b ∧ it h' f b = it h f b := fun f b _ _ _ _ _ _ => ⟨c.rf (fun q => by have := q.fl; omega), c.it (fun q => by have := q.fl; omega)⟩
  have I : IntS h h' := c.int (fun x q => by have := q.fl; omega)
  refine ⟨by rw [c.1]; exact k1, p.nodup_iff.mpr k2, p.trans k3, fun a ha => by rw [c.1]; exact k4 a (p.mem_iff.mp ha), ?_, fun w => d (by rw [← c.1]; exact w), by rw [(g 18 m (by omega) (by omega) (by omega) (by omega) (by omega) (by omega)).2]; exact k7, ?_⟩
  · rcases k5 with w | ⟨e, t, w1, w2, w3, w4⟩
    · exact Or.inl ⟨w.1, by rw [(g 13 m (by omega) (by omega) (by omega) (by omega) (by omega) (by omega)).1]; exact w.2⟩
    · refine Or.inr ⟨e, t, w1, w2, by rw [(g 13 m (by omega) (by omega) (by omega) (by omega) (by omega) (by omega)).1]; exact w3, ?_⟩
      rw [show lkOf h' m = lkOf h m by unfold lkOf; rw [c.1]]
      refine ⟨by rw [c.1]; exact w4.1, by rw [c.2.1]; exact w4.2.1, fun i hi => ?_⟩
      obtain ⟨z1, z2⟩ := w4.2.2 i hi
      exact ⟨by rw [(g (100 + i) t (by omega) (by omega) (by omega) (by omega) (by omega) (by omega)).1]; exact z1, z2.fra I (fun a _ => c.1 a) (fun a _ => (g 0 a (by omega) (by omega) (by omega) (by omega) (by omega) (by omega)).2) (fun a _ f hf => (g f a (by omega) (by omega) (by omega) (by omega) (by omega) (by omega)).1)⟩
  · unfold TH at k8 ⊢
    rw [(g 17 m (by omega) (by omega) (by omega) (by omega) (by omega) (by omega)).2]; exact k8
theorem Chg.mst {h h' : Hp} {m : Nat} {O O' : List Nat} (c : Chg (PO m O) h h') (p : O'.Perm O) (mO : m ∉ O) : Mst h h' m O O' := by
  refine ⟨c.ex, fun f b _ bm bO _ => ?_, fun x hx => Or.inl (p.mem_iff.mp hx), fun t ht => Or.inl ?_, fun f hf => ?_⟩
  · rcases c.2.2.2.2 f b with q | q
    · rcases q with q | q
      · exact absurd q.1 bm
      · exact absurd q.1 bO
    · exact q
  · rw [← c.rf (f := 13) (x := m) (fun q => by have := q.fl; omega)]; exact ht
  · exact ⟨c.rf (fun q => by have := q.fl; omega), c.it (fun q => by have := q.fl; omega)⟩
/-- where a node goes when it is used -/
def acc (h : Hp) (m : Nat) (O : List Nat) (a : Nat) : List Nat := if kd h m = 3 ∧ it h 21 m = 1 then O.erase a ++ [a] else O
theorem acc_perm {h : Hp} {m : Nat} {O : List Nat} {a : Nat} (ha : a ∈ O) : (acc h m O a).Perm O := by
  unfold acc
  split
  · exact (List.perm_append_comm.trans (List.perm_cons_erase ha).symm)
  · exact List.Perm.refl _
theorem erase_mid {X Y : List Nat} {a : Nat} (nd : (X ++ a :: Y).Nodup) : (X ++ a :: Y).erase a = X ++ Y := by
  have aX : a ∉ X := fun w => (List.nodup_append.mp nd).2.2 a w a List.mem_cons_self rfl
  rw [List.erase_append_right _ aX, List.erase_cons_head]
theorem s_access3 {h : Hp} {m a : Nat} {O : List Nat} {K : Hp → Prop} (hk : kd h m = 3) (d : DL h m O) (nd : O.Nodup) (mO : m ∉ O) (hOk : ∀ x ∈ O, kd h x = 6 ∨ kd h x = 7) (h22 : it h 22 m = 0) (h21 : it h 21 m = 0 ∨ it h 21 m = 1) (ha : a ∈ O)
    (fin : ∀ h', Chg (PO m O) h h' → DL h' m (acc h m O a) → it h' 15 m = it h 15 m → K h') : wp_J2_afterNodeAccess h (some m) (some a) K := by
  unfold wp_J2_afterNodeAccess
  have b141 : acc h m O a = O → wp_J2_afterNodeAccess_b141 K h (some m) (some a) := fun q => by
    unfold wp_J2_afterNodeAccess_b141
    refine ⟨m, rfl, fun _ => ?_, fun w => by rw [h22] at w; cases w⟩
    unfold wp_J2_afterNodeAccess_b265
    exact fin h (Chg.refl _ h) (by rw [q]; exact d) rfl
  refine ⟨m, rfl, (fun w => by rw [h22] at w; cases w), fun _ => ⟨fun w => absurd h22 w, fun _ _ => ⟨fun w => ?_, fun w => ?_⟩⟩⟩
  · exact b141 (by unfold acc; rw [if_neg (fun q => by rw [w] at q; cases q.2)])
  · have w1 : it h 21 m = 1 := h21.resolve_left w
    unfold wp_J2_afterNodeAccess_b22
    refine ⟨m, rfl, fun q => ?_, fun q => ⟨?_, a, rfl, ?_⟩⟩
    · refine b141 ?_
      unfold acc
      rw [if_pos ⟨hk, w1⟩]
      rw [d.2.1] at q
      by_cases hO : O = []
      · rw [hO] at ha; cases ha
      · obtain ⟨X0, l, e⟩ := split_last hO
        rw [e] at q nd ⊢
        simp at q
        subst q
        have := erase_mid (X := X0) (Y := []) (a := l) nd
        rw [this]; simp
    · rintro b hb
      cases hb
      rcases hOk a ha with w | w <;> rw [w] <;> decide
    · obtain ⟨X, Y, e⟩ := split_at ha
      have eacc : acc h m O a = X ++ Y ++ [a] := by
        unfold acc
        rw [if_pos ⟨hk, w1⟩, e]
        rw [e] at nd
        rw [erase_mid nd]
      rw [eacc] at fin
      subst e
      obtain ⟨a4, a5⟩ := d.at
      have nd' := List.nodup_append.mp nd
      have aX : a ∉ X := fun w => nd'.2.2 a w a List.mem_cons_self rfl
      have aY : a ∉ Y := (List.nodup_cons.mp nd'.2.1).1
      have ma : m ≠ a := fun w => mO (w ▸ ha)
      have inO : ∀ x, x ∈ X ∨ x ∈ Y → x ∈ X ++ a :: Y := fun x hx => by rcases hx with w | w <;> simp [w]
      have nXY : (X ++ Y).Nodup := (List.nodup_append.mpr ⟨nd'.1, (List.nodup_cons.mp nd'.2.1).2, fun x hx y hy => nd'.2.2 x hx y (List.mem_cons_of_mem _ hy)⟩)
      have Yne : Y ≠ [] := fun w => by
        subst w
        apply q
        rw [d.2.1]; simp
      obtain ⟨y, hy⟩ : ∃ y, Y.head? = some y := by
        cases Y with
        | nil => exact absurd rfl Yne
        | cons y Y => exact ⟨y, rfl⟩
      obtain ⟨Y0, l, eY⟩ := split_last Yne
      have yY : y ∈ Y := List.mem_of_mem_head? hy
      have lY : l ∈ Y := by rw [eY]; simp
      have t20 : rf h 20 m = some l := by
        rw [d.2.1, eY, show X ++ a :: (Y0 ++ [l]) = (X ++ a :: Y0) ++ [l] by simp]
        simp only [List.getLast?_append, List.getLast?_singleton, Option.some_or]
      have ym : y ≠ m := fun w => mO (w ▸ inO y (Or.inr yY))
      have lm : l ≠ m := fun w => mO (w ▸ inO l (Or.inr lY))
      have ya : y ≠ a := fun w => aY (w ▸ yY)
      have la : l ≠ a := fun w => aY (w ▸ lY)
      rintro h1 rfl
      -- behind the taking out
      have go : ∀ h2, Chg (PO m (X ++ a :: Y)) h h2 → DL h2 m (X ++ Y) → rf h2 5 a = none → rf h2 20 m = some l → it h2 15 m = it h 15 m → wp_J2_afterNodeAccess_b97 K h2 (some m) (some l) (some a) := by
        intro h2 c2 d2 e5 e20 e15
        unfold wp_J2_afterNodeAccess_b97
        refine ⟨(fun w => by cases w), fun l' hl' => ?_⟩
        cases hl'
        refine ⟨a, rfl, ?_⟩
        rintro h3 rfl h4 rfl
        unfold wp_J2_afterNodeAccess_b122
        refine ⟨m, rfl, ?_⟩
        rintro h5 rfl h6 rfl
        unfold wp_J2_afterNodeAccess_b265
        have lastXY : (X ++ Y).getLast? = some l := by
          rw [eY, ← List.append_assoc]
          simp only [List.getLast?_append, List.getLast?_singleton, Option.some_or]
        refine fin _ ((((c2.wR _ (Or.inr ⟨ha, by omega⟩)).wR _ (Or.inr ⟨inO l (Or.inr lY), by omega⟩)).wR _ (Or.inl ⟨rfl, by omega⟩)).wI _ (Or.inl ⟨rfl, by omega⟩)) ?_ ?_
        · refine d2.push nXY ?_ ?_ (fun b hb => ?_) ?_ ?_ (fun b hb hn => ?_) (fun b hb => ?_)
          · rw [lastXY]
            simp [rf_wI, rf_wR, ma.symm, la.symm]
          · simp [rf_wI, rf_wR, la.symm, e5]
          · rw [lastXY] at hb; cases hb
            simp [rf_wI, rf_wR]
          · rw [if_neg (by simp [Yne])]
            simp [rf_wI, rf_wR]
          · simp [rf_wI, rf_wR]
          · have bl : b ≠ l := fun w => hn (by rw [lastXY, w])
            simp [rf_wI, rf_wR, bl]
          · have ba : b ≠ a := fun w => by
              rw [w] at hb
              rcases List.mem_append.mp hb with w | w
              · exact aX w
              · exact aY w
            simp [rf_wI, rf_wR, ba]
        · simp [it_wI, it_wR, e15]
      have xne : ∀ b, X.getLast? = some b → b ∈ X := fun b hb => mem_last hb
      rw [t20, a4, a5, hy]
      refine ⟨fun w => ?_, fun x hx => ?_⟩
      · have hX : X = [] := by simpa using w
        rintro h2 rfl
        unfold wp_J2_afterNodeAccess_b79
        refine ⟨(fun w => by cases w), fun y' hy' => ?_⟩
        cases hy'
        rintro h3 rfl
        refine go _ (((Chg.refl _ h).wR _ (Or.inr ⟨ha, by omega⟩)).wR _ (Or.inl ⟨rfl, by omega⟩) |>.wR _ (Or.inr ⟨inO y (Or.inr yY), by omega⟩)) ?_ ?_ ?_ rfl
        · refine d.del nd (fun b hb => by rw [hX] at hb; cases hb) (fun c hc => ?_) ?_ ?_ (fun b hb hn => ?_) (fun b hb hn => ?_)
          · rw [hy] at hc; cases hc
            rw [rf_wR, if_pos ⟨rfl, rfl⟩]
          · rw [if_pos hX, hy]
            simp [rf_wR]
          · rw [if_neg Yne]
            simp [rf_wR]
          · have ba : b ≠ a := fun w => by
              rw [w] at hb
              rcases List.mem_append.mp hb with w | w
              · exact aX w
              · exact aY w
            simp [rf_wR, ba]
          · have hby : b ≠ y := fun w => hn (by rw [w]; exact hy)
            simp [rf_wR, hby]
        · simp [rf_wR]
        · simp [rf_wR, t20]
      · have xX := xne x hx
        have xa : x ≠ a := fun w => aX (w ▸ xX)
        have xm : x ≠ m := fun w => mO (w ▸ inO x (Or.inl xX))
        rintro h2 rfl
        unfold wp_J2_afterNodeAccess_b79
        refine ⟨(fun w => by cases w), fun y' hy' => ?_⟩
        cases hy'
        rintro h3 rfl
        refine go _ (((Chg.refl _ h).wR _ (Or.inr ⟨ha, by omega⟩)).wR _ (Or.inr ⟨inO x (Or.inl xX), by omega⟩) |>.wR _ (Or.inr ⟨inO y (Or.inr yY), by omega⟩)) ?_ ?_ ?_ rfl
        · refine d.del nd (fun b hb => ?_) (fun c hc => ?_) ?_ ?_ (fun b hb hn => ?_) (fun b hb hn => ?_)
          · rw [hx] at hb; cases hb
            simp [rf_wR, hy]
          · rw [hy] at hc; cases hc
            rw [rf_wR, if_pos ⟨rfl, rfl⟩, hx]
          · rw [if_neg (fun w => by rw [w] at xX; cases xX)]
            simp [rf_wR]
          · rw [if_neg Yne]
            simp [rf_wR]
          · have ba : b ≠ a := fun w => by
              rw [w] at hb
              rcases List.mem_append.mp hb with w | w
              · exact aX w
              · exact aY w
            have bx : b ≠ x := fun w => hn (by rw [w]; exact hx)
            simp [rf_wR, ba, bx]
          · have hby : b ≠ y := fun w => hn (by rw [w]; exact hy)
            simp [rf_wR, hby]
        · simp [rf_wR, xa.symm]
        · simp [rf_wR, t20]
