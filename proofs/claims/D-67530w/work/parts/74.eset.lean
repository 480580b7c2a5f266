/-! NEW CELLS; VIEWS ARE WRITTEN -/
set_option maxRecDepth 100000
/-- only cells that are new since h have changed -/
def Nws (h h' : Hp) : Prop := Ex h h' ∧ ∀ f b, kd h b ≠ 0 → rf h' f b = rf h f b ∧ it h' f b = it h f b
theorem Nws.refl (h : Hp) : Nws h h := ⟨Ex.refl h, fun _ _ _ => ⟨rfl, rfl⟩⟩
theorem Nws.trans {h h1 h2 : Hp} (a : Nws h h1) (b : Nws h1 h2) : Nws h h2 := ⟨a.1.trans b.1, fun f x hx => by
  obtain ⟨e1, e2⟩ := a.2 f x hx
  obtain ⟨e3, e4⟩ := b.2 f x (by rw [(a.1.1 x hx).1]; exact hx)
  exact ⟨e3.trans e1, e4.trans e2⟩⟩
theorem Nws.nw {h h1 : Hp} {a : Nat} (s : Nws h h1) (K N : Nat) (ha : kd h1 a = 0) : Nws h (nw h1 a K N) := by
  have ne : ∀ b, kd h b ≠ 0 → b ≠ a := fun b hb w => hb (s.1.old (w ▸ ha))
  exact ⟨s.1.trans ((Ex.refl h1).nw K N ha), fun f b hb => ⟨by rw [rf_nw, if_neg (ne b hb)]; exact (s.2 f b hb).1, by rw [it_nw, if_neg (ne b hb)]; exact (s.2 f b hb).2⟩⟩
theorem Nws.chg {h h1 h2 : Hp} {a : Nat} (s : Nws h h1) (c : Chg (fun _ b => b = a) h1 h2) (ha : kd h a = 0) : Nws h h2 := by
  have ne : ∀ b, kd h b ≠ 0 → ¬ b = a := fun b hb w => hb (w ▸ ha)
  exact ⟨s.1.trans c.ex, fun f b hb => ⟨(c.rf (ne b hb)).trans (s.2 f b hb).1, (c.it (ne b hb)).trans (s.2 f b hb).2⟩⟩
theorem MI.kdm {h : Hp} {m n : Nat} {O : List Nat} (M : MI h m n O) : kd h m = 2 ∨ kd h m = 3 := by
  obtain ⟨⟨bn, k⟩, -⟩ := M
  exact k.1
theorem MI.nws {h h' : Hp} {m n : Nat} {O : List Nat} (M : MI h m n O) (s : Nws h h') : Sam h h' m O := by
  refine ⟨s.1, fun b hb => ⟨(s.1.1 b (by omega)).1, (s.2 23 b (by omega)).2⟩, fun f b hb => s.2 f b ?_⟩
  have := M.ownk hb
  omega
theorem VW.nws {h h' : Hp} {m : Nat} (v : VW h m) (hm : kd h m = 2 ∨ kd h m = 3) (s : Nws h h') : VW h' m :=
  v.keep hm s.1 (s.2 14 m (by omega)).1 (s.2 11 m (by omega)).1 (fun f e h1 h2 => s.2 f e (by omega))
theorem Ost.nws {h h1 h2 : Hp} {m : Nat} {O O1 : List Nat} (s : Ost h h1 m O O1) (w : Nws h1 h2) (hm : kd h m ≠ 0) : Ost h h2 m O O1 := by
  obtain ⟨s1, s2, s3, s4, s5⟩ := s
  have up : ∀ b, kd h b ≠ 0 → kd h1 b ≠ 0 := fun b hb => by rw [(s1.1 b hb).1]; exact hb
  refine ⟨s1.trans w.1, fun f b b0 bm bO bt => ?_, s3, fun t ht => s4 t ?_, ?_⟩
  · obtain ⟨w1, w2⟩ := s2 f b b0 bm bO bt
    obtain ⟨w3, w4⟩ := w.2 f b (up b b0)
    exact ⟨w3.trans w1, w4.trans w2⟩
  · rw [← (w.2 13 m (up m hm)).1]; exact ht
  · rw [(w.2 21 m (up m hm)).2]; exact s5
theorem rf_view {h : Hp} {m f : Nat} {v : Option Nat} (hf : f = 11 ∨ f = 14) (g b : Nat) (h1 : g ≠ 11) (h2 : g ≠ 14) : rf (wR h f m v) g b = rf h g b := by
  rw [rf_wR, if_neg (by omega)]
/-- a view is written into the map -/
theorem MI.view {h : Hp} {m n f : Nat} {O : List Nat} {v : Option Nat} (M : MI h m n O) (hf : f = 11 ∨ f = 14) : MI (wR h f m v) m n O ∧ (∀ x ∈ O, pr (wR h f m v) x = pr h x) ∧ Ost h (wR h f m v) m O O := by
  have g := fun g b => rf_view (h := h) (m := m) (v := v) hf g b
  have g13 := g 13 m (by omega) (by omega)
  have gn : ∀ f2, f2 = 1 ∨ f2 = 2 ∨ f2 = 3 ∨ f2 = 6 ∨ f2 = 7 ∨ f2 = 8 ∨ f2 = 9 ∨ f2 = 4 ∨ f2 = 5 ∨ f2 = 19 ∨ f2 = 20 ∨ 100 ≤ f2 → ∀ b, rf (wR h f m v) f2 b = rf h f2 b := fun f2 q b => g f2 b (by omega) (by omega)
  obtain ⟨⟨bn, k⟩, k2, k3⟩ := id M
  have ok := k.ok
  obtain ⟨k1, kk2, kk3, k4, k5, k6, k7, k8⟩ := id k
  refine ⟨⟨⟨bn, k1, kk2, kk3, k4, ?_, fun w => (k6 w).fra (gn 19 (by simp) m) (gn 20 (by simp) m) (fun b _ => gn 5 (by simp) b) (fun b _ => gn 4 (by simp) b), k7, k8⟩, k2, k3⟩, fun x hx => pr_fra (ok x hx) (fun _ _ => ⟨rfl, rfl⟩) (gn 1 (by simp) x) (gn 2 (by simp) x), Ex.refl h, fun f2 b _ bm _ _ => ⟨?_, rfl⟩, fun x hx => Or.inl hx, fun t ht => Or.inl (by rw [← g13]; exact ht), rfl⟩
  · rcases k5 with w | ⟨e, t, w1, w2, w3, w4⟩
    · exact Or.inl ⟨w.1, by rw [g13]; exact w.2⟩
    · refine Or.inr ⟨e, t, w1, w2, by rw [g13]; exact w3, w4.1, w4.2.1, fun i hi => ⟨by rw [gn _ (by simp) t]; exact (w4.2.2 i hi).1, (w4.2.2 i hi).2.fra (fun _ _ => ⟨rfl, rfl⟩) (fun _ _ => rfl) (fun _ _ => rfl) (fun b _ f hf => gn f ?_ b)⟩⟩
      rcases hf with u | u | u | u | u | u | u <;> simp [u]
  · rw [rf_wR, if_neg (fun z => bm z.2)]
/-- the cells that no operation of the maps writes -/
def Fr (h h' : Hp) : Prop := Ex h h' ∧ ∀ f b, kd h b = 1 ∨ kd h b = 4 ∨ (14 ≤ kd h b ∧ kd h b ≠ 51) → rf h' f b = rf h f b ∧ it h' f b = it h f b
theorem Fr.refl (h : Hp) : Fr h h := ⟨Ex.refl h, fun _ _ _ => ⟨rfl, rfl⟩⟩
theorem Fr.trans {h h1 h2 : Hp} (a : Fr h h1) (b : Fr h1 h2) : Fr h h2 := ⟨a.1.trans b.1, fun f x hx => by
  obtain ⟨e1, e2⟩ := a.2 f x hx
  obtain ⟨e3, e4⟩ := b.2 f x (by rw [(a.1.1 x (by omega)).1]; exact hx)
  exact ⟨e3.trans e1, e4.trans e2⟩⟩
theorem Nws.fr {h h' : Hp} (s : Nws h h') : Fr h h' := ⟨s.1, fun f b hb => s.2 f b (by omega)⟩
theorem Ost.fr {h h' : Hp} {m n : Nat} {O O' : List Nat} (s : Ost h h' m O O') (M : MI h m n O) : Fr h h' := by
  refine ⟨s.1, fun f b hb => s.2.1 f b (by omega) (fun w => ?_) (fun w => ?_) (fun w => ?_)⟩
  · have := M.ownk (b := b) (Or.inl w); omega
  · have := M.ownk (b := b) (Or.inr (Or.inl w)); omega
  · have := M.ownk (b := b) (Or.inr (Or.inr w)); omega
theorem Chg.fr {h h' : Hp} {a : Nat} (c : Chg (fun _ b => b = a) h h') (ka : 8 ≤ kd h a ∧ kd h a ≤ 13) : Fr h h' := by
  refine ⟨c.ex, fun f b hb => ?_⟩
  have w : ¬ b = a := fun w => by rw [w] at hb; omega
  exact ⟨c.rf w, c.it w⟩
theorem Fr.int {h h' : Hp} (f : Fr h h') : IntS h h' := fun b hb => ⟨(f.1.1 b (by omega)).1, (f.2 23 b (by omega)).2⟩
theorem Ost.sam {h h' : Hp} {m m2 n n2 : Nat} {O O' O2 : List Nat} (s : Ost h h' m O O') (k : MI h m n O) (k2 : MI h m2 n2 O2) (dis : ∀ b, Own h m O b → ¬ Own h m2 O2 b) : Sam h h' m2 O2 := by
  refine ⟨s.1, (s.fr k).int, fun f b hb => ?_⟩
  have b0 : kd h b ≠ 0 := by have := k2.ownk hb; omega
  exact s.2.1 f b b0 (fun w => dis b (Or.inl w) hb) (fun w => dis b (Or.inr (Or.inl w)) hb) (fun w => dis b (Or.inr (Or.inr w)) hb)
/-- another map's views -/
theorem Ost.vw {h h' : Hp} {m m2 n : Nat} {O O' : List Nat} (s : Ost h h' m O O') (k : MI h m n O) (v : VW h m2) (hm : kd h m2 = 2 ∨ kd h m2 = 3) (ne : ¬ Own h m O m2) : VW h' m2 := by
  have fm : ∀ f, rf h' f m2 = rf h f m2 := fun f => (s.2.1 f m2 (by omega) (fun w => ne (Or.inl w)) (fun w => ne (Or.inr (Or.inl w))) (fun w => ne (Or.inr (Or.inr w)))).1
  refine v.keep hm s.1 (fm 14) (fm 11) (fun f e h1 h2 => s.2.1 f e (by omega) (fun w => ?_) (fun w => ?_) (fun w => ?_))
  · have := k.ownk (b := e) (Or.inl w); omega
  · have := k.ownk (b := e) (Or.inr (Or.inl w)); omega
  · have := k.ownk (b := e) (Or.inr (Or.inr w)); omega
