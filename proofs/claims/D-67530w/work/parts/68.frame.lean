/-! WHAT A MAP'S STATE RESTS ON -/
set_option maxRecDepth 100000
/-- the cells of the map m -/
def Own (h : Hp) (m : Nat) (O : List Nat) (b : Nat) : Prop := b = m ∨ b ∈ O ∨ rf h 13 m = some b
/-- the map's own cells, and the Integers, are as they were -/
def Sam (h h' : Hp) (m : Nat) (O : List Nat) : Prop := Ex h h' ∧ IntS h h' ∧ ∀ f b, Own h m O b → rf h' f b = rf h f b ∧ it h' f b = it h f b
theorem MB.sam {h h' : Hp} {m n : Nat} {bn : Nat → List Nat} {O : List Nat} (k : MB h m n bn O) (s : Sam h h' m O) : MB h' m n bn O := by
  obtain ⟨k1, k2, k3, k4, k5, k6, k7, k8⟩ := id k
  obtain ⟨s1, s2, s3⟩ := s
  have m0 : kd h m ≠ 0 := by rcases k1 with w | w <;> rw [w] <;> decide
  have em := (s1.1 m m0).1
  have sm : ∀ f, rf h' f m = rf h f m ∧ it h' f m = it h f m := fun f => s3 f m (Or.inl rfl)
  have sO : ∀ f, ∀ x ∈ O, rf h' f x = rf h f x ∧ it h' f x = it h f x := fun f x hx => s3 f x (Or.inr (Or.inl hx))
  have kO : ∀ x ∈ O, kd h' x = kd h x := fun x hx => (s1.1 x (by have := k4 x hx; omega)).1
  refine ⟨by rw [em]; exact k1, k2, k3, fun a ha => by rw [kO a ha]; exact k4 a ha, ?_, fun w => (k6 (by rw [← em]; exact w)).fra (sm 19).1 (sm 20).1 (fun a ha => (sO 5 a ha).1) (fun a ha => (sO 4 a ha).1), by rw [(sm 18).2]; exact k7, ?_⟩
  · rcases k5 with w | ⟨e, t, w1, w2, w3, w4⟩
    · exact Or.inl ⟨w.1, by rw [(sm 13).1]; exact w.2⟩
    · have st : ∀ f, rf h' f t = rf h f t ∧ it h' f t = it h f t := fun f => s3 f t (Or.inr (Or.inr w3))
      have t0 : kd h t ≠ 0 := by rw [w4.1]; decide
      refine Or.inr ⟨e, t, w1, w2, by rw [(sm 13).1]; exact w3, ?_⟩
      rw [show lkOf h' m = lkOf h m by unfold lkOf; rw [em]]
      refine ⟨by rw [(s1.1 t t0).1]; exact w4.1, by rw [(s1.1 t t0).2]; exact w4.2.1, fun i hi => ?_⟩
      obtain ⟨z1, z2⟩ := w4.2.2 i hi
      have inO := k.inO hi
      exact ⟨by rw [(st (100 + i)).1]; exact z1, z2.fra s2 (fun a ha => kO a (inO a ha)) (fun a ha => (sO 0 a (inO a ha)).2) (fun a ha f _ => (sO f a (inO a ha)).1)⟩
  · unfold TH at k8 ⊢
    rw [(sm 17).2]; exact k8
theorem MI.sam {h h' : Hp} {m n : Nat} {O : List Nat} (k : MI h m n O) (s : Sam h h' m O) : MI h' m n O ∧ (∀ x ∈ O, pr h' x = pr h x) ∧ lc h' O = lc h O := by
  obtain ⟨⟨bn, kb⟩, k2, k3⟩ := k
  have m0 : kd h m ≠ 0 := by rcases kb.1 with w | w <;> rw [w] <;> decide
  have em := (s.1.1 m m0).1
  have sm : ∀ f, rf h' f m = rf h f m ∧ it h' f m = it h f m := fun f => s.2.2 f m (Or.inl rfl)
  refine ⟨⟨⟨bn, kb.sam s⟩, by rw [(sm 15).2]; exact k2, by rw [em, (sm 22).2, (sm 21).2]; exact k3⟩, fun x hx => pr_fra (kb.ok x hx) s.2.1 (s.2.2 1 x (Or.inr (Or.inl hx))).1 (s.2.2 2 x (Or.inr (Or.inl hx))).1, lc_frame (fun x hx => (s.1.1 x (by have := kb.2.2.2.1 x hx; omega)).1)⟩
theorem Sam.trans {h h1 h2 : Hp} {m : Nat} {O : List Nat} (a : Sam h h1 m O) (b : Sam h1 h2 m O) : Sam h h2 m O := by
  refine ⟨a.1.trans b.1, a.2.1.trans b.2.1, fun f x hx => ?_⟩
  have hx1 : Own h1 m O x := by
    rcases hx with w | w | w
    · exact Or.inl w
    · exact Or.inr (Or.inl w)
    · exact Or.inr (Or.inr (by rw [(a.2.2 13 m (Or.inl rfl)).1]; exact w))
  exact ⟨(b.2.2 f x hx1).1.trans (a.2.2 f x hx).1, (b.2.2 f x hx1).2.trans (a.2.2 f x hx).2⟩
/-- the kinds of a map's own cells -/
theorem MI.ownk {h : Hp} {m n : Nat} {O : List Nat} (k : MI h m n O) {b : Nat} (o : Own h m O b) : kd h b = 2 ∨ kd h b = 3 ∨ (5 ≤ kd h b ∧ kd h b ≤ 7) ∨ kd h b = 51 := by
  obtain ⟨⟨bn, kb⟩, k2, k3⟩ := k
  rcases o with w | w | w
  · rw [w]; have := kb.1; omega
  · have := kb.2.2.2.1 b w; omega
  · have := kb.tabk w; omega
/-- changes at a cell of another kind -/
theorem MI.off {h h' : Hp} {m n a : Nat} {O : List Nat} (k : MI h m n O) (c : Chg (fun _ b => b = a) h h') (ka : 8 ≤ kd h a ∧ kd h a ≠ 51 ∧ kd h a ≠ 60) : Sam h h' m O := by
  refine ⟨c.ex, fun b hb => ⟨c.1 b, c.it (fun w => ?_)⟩, fun f b hb => ?_⟩
  · rw [w] at hb; omega
  · have w : ¬ b = a := fun w => by
      have := k.ownk hb
      rw [w] at this
      omega
    exact ⟨c.rf w, c.it w⟩
/-- a step of another map -/
theorem Mst.sam {h h' : Hp} {m m2 n n2 : Nat} {O O' O2 : List Nat} (s : Mst h h' m O O') (k : MI h m n O) (k2 : MI h m2 n2 O2) (dis : ∀ b, Own h m O b → ¬ Own h m2 O2 b) : Sam h h' m2 O2 := by
  refine ⟨s.1, s.int k, fun f b hb => ?_⟩
  have b0 : kd h b ≠ 0 := by have := k2.ownk hb; omega
  exact s.2.1 f b b0 (fun w => dis b (Or.inl w) hb) (fun w => dis b (Or.inr (Or.inl w)) hb) (fun w => dis b (Or.inr (Or.inr w)) hb)
/-- cells that are new since h may change -/
theorem Mst.new {h h1 h2 : Hp} {m a : Nat} {O O1 : List Nat} (s : Mst h h1 m O O1) (c : Chg (fun _ b => b = a) h1 h2) (ha : kd h a = 0) (hm : kd h m ≠ 0) : Mst h h2 m O O1 := by
  obtain ⟨s1, s2, s3, s4, s5⟩ := s
  have ne : ∀ b, kd h b ≠ 0 → ¬ b = a := fun b hb w => hb (w ▸ ha)
  refine ⟨s1.trans c.ex, fun f b b0 bm bO bt => ?_, s3, fun t ht => s4 t ?_, fun f hf => ?_⟩
  · obtain ⟨w1, w2⟩ := s2 f b b0 bm bO bt
    exact ⟨(c.rf (ne b b0)).trans w1, (c.it (ne b b0)).trans w2⟩
  · rw [← c.rf (ne m hm)]; exact ht
  · exact ⟨(c.rf (ne m hm)).trans (s5 f hf).1, (c.it (ne m hm)).trans (s5 f hf).2⟩
