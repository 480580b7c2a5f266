/-! A TREE'S NODES CHANGE PLACES; ONE GOES -/
set_option maxRecDepth 100000
theorem Trg.relabel {h h' : Hp} {r : Nat} {S : List Nat} {sub : Nat → List Nat} {g : Nat → Nat} (k : Trg 7 8 h r S sub) (inv : ∀ a, g (g a) = a) (e : ∀ a ∈ S, ∀ f, f = 6 ∨ f = 7 ∨ f = 8 → rf h' f (g a) = (rf h f a).map g) : Trg 7 8 h' (g r) (S.map g) (fun a => (sub (g a)).map g) := by
  have inj : ∀ a b, g a = g b → a = b := fun a b q => by rw [← inv a, q, inv]
  obtain ⟨k1, k2, k3, k4, k5⟩ := k
  have eS : ∀ o : Option Nat, subO (fun a => (sub (g a)).map g) (o.map g) = (subO sub o).map g := fun o => by
    cases o with
    | none => rfl
    | some b =>
      show (sub (g (g b))).map g = (sub b).map g
      rw [inv]
  refine ⟨by show (sub (g (g r))).map g = _; rw [inv, k1], List.mem_map.mpr ⟨r, k2, rfl⟩, ?_, by rw [e r k2 6 (by omega), k4]; rfl, fun a ha => ?_⟩
  · unfold List.Nodup at k3 ⊢
    rw [List.pairwise_map]
    exact k3.imp (fun {a b} w q => w (inj a b q))
  · obtain ⟨y, hy, rfl⟩ := List.mem_map.mp ha
    obtain ⟨c1, c2, c3⟩ := k5 y hy
    refine ⟨?_, fun b hb => ?_, fun b hb => ?_⟩
    · rw [e y hy 7 (by omega), e y hy 8 (by omega), eS, eS]
      show (sub (g (g y))).map g = _
      rw [inv, c1]
      simp
    · rw [e y hy 7 (by omega)] at hb
      obtain ⟨z, hz, rfl⟩ := Option.map_eq_some_iff.mp hb
      obtain ⟨d1, d2⟩ := c2 z hz
      exact ⟨List.mem_map.mpr ⟨z, d1, rfl⟩, by rw [e z d1 6 (by omega), d2]; rfl⟩
    · rw [e y hy 8 (by omega)] at hb
      obtain ⟨z, hz, rfl⟩ := Option.map_eq_some_iff.mp hb
      obtain ⟨d1, d2⟩ := c3 z hz
      exact ⟨List.mem_map.mpr ⟨z, d1, rfl⟩, by rw [e z d1 6 (by omega), d2]; rfl⟩
/-- p, with one child or none, goes; the child takes its place -/
theorem Trg.del {h h' : Hp} {r r' p : Nat} {S : List Nat} {sub : Nat → List Nat} {q : Option Nat} (k : Trg 7 8 h r S sub) (hp : p ∈ S) (hq : (rf h 7 p = q ∧ rf h 8 p = none) ∨ (rf h 7 p = none ∧ rf h 8 p = q))
    (hr : (p = r ∧ q = some r') ∨ (p ≠ r ∧ r' = r)) (e7 : ∀ a ∈ S, a ≠ p → ∀ f, f = 7 ∨ f = 8 → rf h' f a = if rf h f a = some p then q else rf h f a) (e6 : ∀ a ∈ S, a ≠ p → rf h' 6 a = if q = some a then rf h 6 p else rf h 6 a) : Trg 7 8 h' r' (S.filter (fun a => decide (a ≠ p))) (fun a => (sub a).filter (fun a => decide (a ≠ p))) := by
  have qc : ∀ b, q = some b → b ∈ S ∧ rf h 6 b = some p ∧ b ≠ p := fun b hb => by
    have c : chd 7 8 h p b := by
      rcases hq with w | w
      · exact Or.inl (by rw [w.1]; exact hb)
      · exact Or.inr (by rw [w.2]; exact hb)
    exact ⟨(k.chS hp c).1, (k.chS hp c).2, k.ne_ch hp c⟩
  have ep : (sub p).filter (fun a => decide (a ≠ p)) = (subO sub q).filter (fun a => decide (a ≠ p)) := by
    rw [(k.2.2.2.2 p hp).1]
    rcases hq with w | w
    · rw [w.1, w.2]; simp [subO]
    · rw [w.1, w.2]; simp [subO]
  have kk := k
  obtain ⟨k1, k2, k3, k4, k5⟩ := k
  have subq : ∀ o : Option Nat, subO (fun a => (sub a).filter (fun a => decide (a ≠ p))) (if o = some p then q else o) = (subO sub o).filter (fun a => decide (a ≠ p)) := fun o => by
    by_cases w : o = some p
    · rw [if_pos w, w]
      show _ = (sub p).filter _
      rw [ep]
      cases q <;> rfl
    · rw [if_neg w]
      cases o <;> rfl
  have mem : ∀ a, a ∈ S.filter (fun a => decide (a ≠ p)) ↔ a ∈ S ∧ a ≠ p := fun a => by rw [List.mem_filter]; simp
  have ch : ∀ a ∈ S, a ≠ p → ∀ f, f = 7 ∨ f = 8 → ∀ b, rf h' f a = some b → b ∈ S.filter (fun a => decide (a ≠ p)) ∧ rf h' 6 b = some a := fun a ha ap f hf b hb => by
    have cd : ∀ c, rf h f a = some c → chd 7 8 h a c := fun c hc => by
      rcases hf with w | w
      · exact Or.inl (w ▸ hc)
      · exact Or.inr (w ▸ hc)
    rw [e7 a ha ap f hf] at hb
    by_cases w : rf h f a = some p
    · rw [if_pos w] at hb
      obtain ⟨z1, z2, z3⟩ := qc b hb
      refine ⟨(mem b).mpr ⟨z1, z3⟩, ?_⟩
      rw [e6 b z1 z3, if_pos hb]
      exact (kk.chS ha (cd p w)).2
    · rw [if_neg w] at hb
      obtain ⟨z1, z2⟩ := kk.chS ha (cd b hb)
      have bp : b ≠ p := fun q => w (q ▸ hb)
      refine ⟨(mem b).mpr ⟨z1, bp⟩, ?_⟩
      rw [e6 b z1 bp, if_neg (fun z => ?_)]
      · exact z2
      · have := (qc b z).2.1
        rw [z2] at this
        exact ap (Option.some.inj this)
  refine ⟨?_, ?_, k3.filter _, ?_, fun a ha => ?_⟩
  · rcases hr with ⟨w1, w2⟩ | ⟨w1, w2⟩
    · have : S.filter (fun a => decide (a ≠ p)) = (sub p).filter (fun a => decide (a ≠ p)) := by rw [w1, k1]
      rw [this, ep, w2]; rfl
    · rw [w2]
      show (sub r).filter _ = _
      rw [k1]
  · rcases hr with ⟨w1, w2⟩ | ⟨w1, w2⟩
    · obtain ⟨z1, z2, z3⟩ := qc r' w2
      exact (mem r').mpr ⟨z1, z3⟩
    · rw [w2]; exact (mem r).mpr ⟨k2, fun z => w1 z.symm⟩
  · rcases hr with ⟨w1, w2⟩ | ⟨w1, w2⟩
    · obtain ⟨z1, z2, z3⟩ := qc r' w2
      rw [e6 r' z1 z3, if_pos w2, w1]; exact k4
    · rw [w2, e6 r k2 (fun z => w1 z.symm), if_neg (fun z => ?_)]
      · exact k4
      · have := (qc r z).2.1
        rw [k4] at this; cases this
  · obtain ⟨aS, ap⟩ := (mem a).mp ha
    refine ⟨?_, ch a aS ap 7 (by omega), ch a aS ap 8 (by omega)⟩
    rw [e7 a aS ap 7 (by omega), e7 a aS ap 8 (by omega), subq, subq]
    show (sub a).filter _ = _
    rw [(k5 a aS).1, List.filter_append, List.filter_cons, if_pos (decide_eq_true ap)]
