/-! VIEWS; steps of an operation -/
set_option maxRecDepth 100000
/-- the views that a map keeps -/
def VW (h : Hp) (m : Nat) : Prop := (∀ e, rf h 14 m = some e → (kd h m = 2 → kd h e = 9 ∧ rf h 28 e = some m) ∧ (kd h m = 3 → kd h e = 10 ∧ rf h 30 e = some m ∧ it h 29 e = 0)) ∧ (∀ e, rf h 11 m = some e → kd h m = 2 → kd h e = 8 ∧ rf h 27 e = some m)
/-- a step of an operation: like Mst, but views may come -/
def Ost (h h' : Hp) (m : Nat) (O O' : List Nat) : Prop :=
  Ex h h' ∧ (∀ f b, kd h b ≠ 0 → b ≠ m → b ∉ O → rf h 13 m ≠ some b → rf h' f b = rf h f b ∧ it h' f b = it h f b) ∧
  (∀ x ∈ O', x ∈ O ∨ kd h x = 0) ∧ (∀ t, rf h' 13 m = some t → rf h 13 m = some t ∨ kd h t = 0) ∧ it h' 21 m = it h 21 m
theorem Mst.ost {h h' : Hp} {m : Nat} {O O' : List Nat} (s : Mst h h' m O O') : Ost h h' m O O' := ⟨s.1, s.2.1, s.2.2.1, s.2.2.2.1, (s.2.2.2.2 21 (by omega)).2⟩
theorem Ost.refl (h : Hp) (m : Nat) (O : List Nat) : Ost h h m O O := (Mst.refl h m O).ost
theorem Ost.trans {h h1 h2 : Hp} {m : Nat} {O O1 O2 : List Nat} (a : Ost h h1 m O O1) (b : Ost h1 h2 m O1 O2) : Ost h h2 m O O2 := by
  obtain ⟨a1, a2, a3, a4, a5⟩ := a
  obtain ⟨b1, b2, b3, b4, b5⟩ := b
  refine ⟨a1.trans b1, fun f x x0 xm xO xt => ?_, fun x hx => ?_, fun t ht => ?_, b5.trans a5⟩
  · obtain ⟨e1, e2⟩ := a2 f x x0 xm xO xt
    obtain ⟨e3, e4⟩ := b2 f x (by rw [(a1.1 x x0).1]; exact x0) xm (fun w => by
      rcases a3 x w with w | w
      · exact xO w
      · exact x0 w) (fun w => by
      rcases a4 x w with w | w
      · exact xt w
      · exact x0 w)
    exact ⟨e3.trans e1, e4.trans e2⟩
  · rcases b3 x hx with w | w
    · exact a3 x w
    · exact Or.inr (a1.old w)
  · rcases b4 t ht with w | w
    · exact a4 t w
    · exact Or.inr (a1.old w)
/-- changes at a cell that is new since h -/
theorem Ost.new {h h1 h2 : Hp} {m a : Nat} {O O1 : List Nat} (s : Ost h h1 m O O1) (c : Chg (fun _ b => b = a) h1 h2) (ha : kd h a = 0) (hm : kd h m ≠ 0) : Ost h h2 m O O1 := by
  obtain ⟨s1, s2, s3, s4, s5⟩ := s
  have ne : ∀ b, kd h b ≠ 0 → ¬ b = a := fun b hb w => hb (w ▸ ha)
  refine ⟨s1.trans c.ex, fun f b b0 bm bO bt => ?_, s3, fun t ht => s4 t ?_, ?_⟩
  · obtain ⟨w1, w2⟩ := s2 f b b0 bm bO bt
    exact ⟨(c.rf (ne b b0)).trans w1, (c.it (ne b b0)).trans w2⟩
  · rw [← c.rf (ne m hm)]; exact ht
  · rw [c.it (ne m hm)]; exact s5
theorem VW.keep {h h' : Hp} {m : Nat} (v : VW h m) (hm : kd h m = 2 ∨ kd h m = 3) (ex : Ex h h') (e14 : rf h' 14 m = rf h 14 m) (e11 : rf h' 11 m = rf h 11 m) (fr : ∀ f e, 8 ≤ kd h e → kd h e ≤ 10 → rf h' f e = rf h f e ∧ it h' f e = it h f e) : VW h' m := by
  have em : kd h' m = kd h m := (ex.1 m (by omega)).1
  refine ⟨fun e he => ?_, fun e he q => ?_⟩
  · rw [e14] at he
    obtain ⟨v1, v2⟩ := v.1 e he
    rw [em]
    refine ⟨fun q => ?_, fun q => ?_⟩
    · obtain ⟨w1, w2⟩ := v1 q
      exact ⟨by rw [(ex.1 e (by omega)).1]; exact w1, by rw [(fr 28 e (by omega) (by omega)).1]; exact w2⟩
    · obtain ⟨w1, w2, w3⟩ := v2 q
      exact ⟨by rw [(ex.1 e (by omega)).1]; exact w1, by rw [(fr 30 e (by omega) (by omega)).1]; exact w2, by rw [(fr 29 e (by omega) (by omega)).2]; exact w3⟩
  · rw [e11] at he
    rw [em] at q
    obtain ⟨w1, w2⟩ := v.2 e he q
    exact ⟨by rw [(ex.1 e (by omega)).1]; exact w1, by rw [(fr 27 e (by omega) (by omega)).1]; exact w2⟩
theorem VW.mst {h h' : Hp} {m n : Nat} {O O' : List Nat} (v : VW h m) (M : MI h m n O) (s : Mst h h' m O O') : VW h' m := by
  obtain ⟨bn, kb⟩ := id M.1
  refine v.keep kb.1 s.1 (s.2.2.2.2 14 (by omega)).1 (s.2.2.2.2 11 (by omega)).1 (fun f e h1 h2 => s.2.1 f e (by omega) (fun w => ?_) (fun w => ?_) (fun w => ?_))
  · have := M.ownk (b := e) (Or.inl w); omega
  · have := M.ownk (b := e) (Or.inr (Or.inl w)); omega
  · have := M.ownk (b := e) (Or.inr (Or.inr w)); omega
theorem VW.chg {h h' : Hp} {m a : Nat} (v : VW h m) (hm : kd h m = 2 ∨ kd h m = 3) (c : Chg (fun _ b => b = a) h h') (ka : kd h a = 0 ∨ 11 ≤ kd h a) : VW h' m := by
  have ma : ¬ m = a := fun w => by rw [w] at hm; omega
  exact v.keep hm c.ex (c.rf ma) (c.rf ma) (fun f e h1 h2 => ⟨c.rf (fun w => by rw [w] at h1 h2; omega), c.it (fun w => by rw [w] at h1 h2; omega)⟩)
