/-! BINS AND TABLES; nodes that go over into others -/
set_option maxRecDepth 100000
def NodeV (h : Hp) (a : Nat) : Prop := ∃ b, rf h 2 a = some b ∧ (kd h b = 4 ∨ kd h b = 60)
def NodeOK (h : Hp) (a : Nat) : Prop := NodeK h a ∧ NodeV h a
def valI (h : Hp) (a : Nat) : Int32 := match rf h 2 a with
  | some b => it h 23 b
  | none => 0
/-- a node's pair -/
def pr (h : Hp) (a : Nat) : Int32 × Int32 := (keyI h a, valI h a)
/-- Integers stay -/
def IntS (h h' : Hp) : Prop := ∀ b, kd h b = 4 ∨ kd h b = 60 → kd h' b = kd h b ∧ it h' 23 b = it h 23 b
theorem IntS.refl (h : Hp) : IntS h h := fun _ _ => ⟨rfl, rfl⟩
theorem IntS.trans {h h1 h2 : Hp} (a : IntS h h1) (b : IntS h1 h2) : IntS h h2 := fun x hx => by
  obtain ⟨e1, e2⟩ := a x hx
  obtain ⟨e3, e4⟩ := b x (by rw [e1]; exact hx)
  exact ⟨e3.trans e1, e4.trans e2⟩
theorem NodeK.fra {h h' : Hp} {a a' : Nat} (k : NodeK h a) (hi : IntS h h') (e0 : it h' 0 a' = it h 0 a) (e1 : rf h' 1 a' = rf h 1 a) : NodeK h' a' := by
  obtain ⟨b, h1, h2, h3⟩ := k
  obtain ⟨g1, g2⟩ := hi b h2
  exact ⟨b, by rw [e1]; exact h1, by rw [g1]; exact h2, by rw [e0, g2]; exact h3⟩
theorem NodeV.fra {h h' : Hp} {a a' : Nat} (k : NodeV h a) (hi : IntS h h') (e2 : rf h' 2 a' = rf h 2 a) : NodeV h' a' := by
  obtain ⟨b, h1, h2⟩ := k
  exact ⟨b, by rw [e2]; exact h1, by rw [(hi b h2).1]; exact h2⟩
theorem NodeOK.fra {h h' : Hp} {a a' : Nat} (k : NodeOK h a) (hi : IntS h h') (e0 : it h' 0 a' = it h 0 a) (e1 : rf h' 1 a' = rf h 1 a) (e2 : rf h' 2 a' = rf h 2 a) : NodeOK h' a' := ⟨k.1.fra hi e0 e1, k.2.fra hi e2⟩
theorem pr_fra {h h' : Hp} {a a' : Nat} (k : NodeOK h a) (hi : IntS h h') (e1 : rf h' 1 a' = rf h 1 a) (e2 : rf h' 2 a' = rf h 2 a) : pr h' a' = pr h a := by
  obtain ⟨⟨b, h1, h2, -⟩, ⟨c, h3, h4⟩⟩ := k
  unfold pr keyI valI
  rw [e1, e2, h1, h3]
  show (it h' 23 b, it h' 23 c) = (it h 23 b, it h 23 c)
  rw [(hi b h2).2, (hi c h4).2]
/-- a bin: a list of nodes of the kind lk, or a tree -/
def Bin (h : Hp) (lk n i : Nat) (L : List Nat) : Prop := (∀ a ∈ L, NodeOK h a ∧ ix n (it h 0 a) = i) ∧ HD h L ∧ NXs h 3 L none ∧ ((∀ a ∈ L, kd h a = lk) ∨ ((∀ a ∈ L, kd h a = 7) ∧ PVs h 9 none L ∧ ∃ r S sub, Trg 7 8 h r S sub ∧ Srt h S ∧ S.Perm L))
theorem Bin.nil (h : Hp) (lk n i : Nat) : Bin h lk n i [] := ⟨(fun a ha => by cases ha), List.Pairwise.nil, trivial, Or.inl (fun a ha => by cases ha)⟩
theorem Bin.fra {h h' : Hp} {lk n i : Nat} {L : List Nat} (k : Bin h lk n i L) (hI : IntS h h') (hk : ∀ a ∈ L, kd h' a = kd h a) (hi : ∀ a ∈ L, it h' 0 a = it h 0 a) (hr : ∀ a ∈ L, ∀ f, f = 1 ∨ f = 2 ∨ f = 3 ∨ f = 6 ∨ f = 7 ∨ f = 8 ∨ f = 9 → rf h' f a = rf h f a) : Bin h' lk n i L := by
  obtain ⟨k1, k2, k3, k4⟩ := k
  refine ⟨fun a ha => ⟨(k1 a ha).1.fra hI (hi a ha) (hr a ha 1 (by omega)) (hr a ha 2 (by omega)), by rw [hi a ha]; exact (k1 a ha).2⟩, k2.fra hi, NXs_fr (fun a ha => hr a ha 3 (by omega)) k3, ?_⟩
  rcases k4 with k4 | ⟨k4, k5, r, S, sub, k6, k7, k8⟩
  · exact Or.inl (fun a ha => by rw [hk a ha]; exact k4 a ha)
  · refine Or.inr ⟨fun a ha => by rw [hk a ha]; exact k4 a ha, PVs_fr (fun a ha => hr a ha 9 (by omega)) k5, r, S, sub, k6.same (fun a ha => ?_), k7.fra (fun a ha => hi a (k8.mem_iff.mp ha)), k8⟩
    have := k8.mem_iff.mp ha
    exact ⟨hr a this 6 (by omega), hr a this 7 (by omega), hr a this 8 (by omega)⟩
def Tab (h : Hp) (lk t n : Nat) (bn : Nat → List Nat) : Prop := kd h t = 51 ∧ ln h t = n ∧ ∀ i, i < n → rf h (100 + i) t = (bn i).head? ∧ Bin h lk n i (bn i)
def nodes (n : Nat) (bn : Nat → List Nat) : List Nat := (List.range n).flatMap bn
theorem mem_nodes {n : Nat} {bn : Nat → List Nat} {a : Nat} : a ∈ nodes n bn ↔ ∃ i, i < n ∧ a ∈ bn i := by
  unfold nodes
  rw [List.mem_flatMap]
  simp [List.mem_range]
def updB (bn : Nat → List Nat) (i : Nat) (L : List Nat) : Nat → List Nat := fun j => if j = i then L else bn j
theorem nodes_updB {bn : Nat → List Nat} {i : Nat} {L : List Nat} : ∀ {n : Nat}, i < n → ∃ A B, nodes n bn = A ++ bn i ++ B ∧ nodes n (updB bn i L) = A ++ L ++ B
  | 0, h => by omega
  | n + 1, h => by
    have e : ∀ g : Nat → List Nat, nodes (n + 1) g = nodes n g ++ g n := fun g => by
      unfold nodes
      rw [List.range_succ, List.flatMap_append]
      simp
    by_cases q : i = n
    · subst q
      refine ⟨nodes i bn, [], by rw [e]; simp, ?_⟩
      rw [e]
      have : nodes i (updB bn i L) = nodes i bn := by
        unfold nodes
        rw [List.flatMap_def, List.flatMap_def]
        congr 1
        apply List.map_congr_left
        intro j hj
        have := List.mem_range.mp hj
        unfold updB
        rw [if_neg (by omega)]
      rw [this]
      simp [updB]
    · obtain ⟨A, B, h1, h2⟩ := nodes_updB (bn := bn) (i := i) (L := L) (n := n) (by omega)
      refine ⟨A, B ++ bn n, by rw [e, h1]; simp, ?_⟩
      rw [e, h2]
      have : updB bn i L n = bn n := by unfold updB; rw [if_neg (fun z => q z.symm)]
      rw [this]
      simp
theorem nodes_updB_perm {bn : Nat → List Nat} {i n : Nat} {L : List Nat} (hi : i < n) (X : List Nat) (hL : L.Perm (X ++ bn i)) : (nodes n (updB bn i L)).Perm (X ++ nodes n bn) := by
  obtain ⟨A, B, h1, h2⟩ := nodes_updB (bn := bn) (i := i) (L := L) hi
  rw [h1, h2]
  have e : (A ++ L ++ B).Perm (A ++ (X ++ bn i) ++ B) := (hL.append_left A).append_right B
  refine e.trans ?_
  simp only [List.append_assoc]
  exact (List.perm_append_comm_assoc A X (bn i ++ B))
/-- how a map's nodes go over: s tells into which; P: what else of the old cells has changed -/
def Evo (P : Nat → Nat → Prop) (h0 h : Hp) (m : Nat) (O : List Nat) (s : Nat → Nat) : Prop :=
  Ex h0 h ∧ (∀ x ∈ O, (s x = x ∨ kd h0 (s x) = 0) ∧ kd h (s x) ≠ 0 ∧ it h 0 (s x) = it h0 0 x ∧ rf h 1 (s x) = rf h0 1 x ∧ rf h 2 (s x) = rf h0 2 x) ∧ (O.map s).Nodup ∧
  (∀ f b, kd h0 b ≠ 0 → ((b = m ∧ (f = 19 ∨ f = 20)) ∨ (b ∈ O ∧ (f = 4 ∨ f = 5)) ∨ P f b) ∨ (rf h f b = rf h0 f b ∧ it h f b = it h0 f b)) ∧ (kd h0 m = 3 → DL h0 m O → DL h m (O.map s))
theorem Evo.start (P : Nat → Nat → Prop) (h : Hp) (m : Nat) {O : List Nat} (nd : O.Nodup) (hO : ∀ x ∈ O, kd h x ≠ 0) : Evo P h h m O id :=
  ⟨Ex.refl h, fun x hx => ⟨Or.inl rfl, hO x hx, rfl, rfl, rfl⟩, by simpa using nd, fun _ _ _ => Or.inr ⟨rfl, rfl⟩, fun _ d => by simpa using d⟩
theorem Evo.trans {P Q : Nat → Nat → Prop} {h0 h1 h2 : Hp} {m : Nat} {O : List Nat} {s1 s2 : Nat → Nat} (a : Evo P h0 h1 m O s1) (b : Evo Q h1 h2 m (O.map s1) s2) (hQ : ∀ f x, kd h0 x ≠ 0 → Q f x → P f x) (hm : kd h0 m ≠ 0) : Evo P h0 h2 m O (fun x => s2 (s1 x)) := by
  obtain ⟨a1, a2, a3, a4, a5⟩ := a
  obtain ⟨b1, b2, b3, b4, b5⟩ := b
  have e1 : ∀ x, kd h0 x ≠ 0 → kd h1 x ≠ 0 := fun x hx => by rw [(a1.1 x hx).1]; exact hx
  refine ⟨a1.trans b1, fun x hx => ?_, by rw [List.map_map] at b3; exact b3, fun f x hx => ?_, fun q d => ?_⟩
  · obtain ⟨c1, c2, c3, c4, c5⟩ := a2 x hx
    obtain ⟨d1, d2, d3, d4, d5⟩ := b2 (s1 x) (List.mem_map.mpr ⟨x, hx, rfl⟩)
    refine ⟨?_, d2, d3.trans c3, d4.trans c4, d5.trans c5⟩
    show s2 (s1 x) = x ∨ kd h0 (s2 (s1 x)) = 0
    rcases d1 with d1 | d1
    · rw [d1]; exact c1
    · by_cases q : kd h0 (s2 (s1 x)) = 0
      · exact Or.inr q
      · exact absurd d1 (e1 _ q)
  · rcases b4 f x (e1 x hx) with q | q
    · left
      rcases q with q | q | q
      · exact Or.inl q
      · obtain ⟨y, hy, ey⟩ := List.mem_map.mp q.1
        rcases (a2 y hy).1 with w | w
        · exact Or.inr (Or.inl ⟨by rw [← ey, w]; exact hy, q.2⟩)
        · rw [ey] at w; exact absurd w hx
      · exact Or.inr (Or.inr (hQ f x hx q))
    · rcases a4 f x hx with w | w
      · exact Or.inl w
      · exact Or.inr ⟨q.1.trans w.1, q.2.trans w.2⟩
  · have := b5 (by rw [(a1.1 m hm).1]; exact q) (a5 q d)
    rw [List.map_map] at this
    exact this
theorem Evo.chg {P Q : Nat → Nat → Prop} {h0 h1 h2 : Hp} {m : Nat} {O : List Nat} {s : Nat → Nat} (a : Evo P h0 h1 m O s) (c : Chg Q h1 h2) (hQ : ∀ f x, kd h0 x ≠ 0 → Q f x → P f x) (hQ2 : ∀ f x, Q f x → f = 3 ∨ (6 ≤ f ∧ f ≤ 10) ∨ 100 ≤ f) : Evo P h0 h2 m O s := by
  obtain ⟨a1, a2, a3, a4, a5⟩ := a
  have c1 : ∀ f x, (f = 1 ∨ f = 2 ∨ f = 4 ∨ f = 5 ∨ f = 19 ∨ f = 20) → rf h2 f x = rf h1 f x := fun f x hf => c.rf (fun q => by have := hQ2 f x q; omega)
  refine ⟨a1.trans c.ex, fun x hx => ?_, a3, fun f x hx => ?_, fun q d => (a5 q d).fra (c1 19 m (by omega)) (c1 20 m (by omega)) (fun x _ => c1 5 x (by omega)) (fun x _ => c1 4 x (by omega))⟩
  · obtain ⟨g1, g2, g3, g4, g5⟩ := a2 x hx
    exact ⟨g1, by rw [c.1]; exact g2, by rw [c.it (fun q => by have := hQ2 0 _ q; omega)]; exact g3, by rw [c1 1 _ (by omega)]; exact g4, by rw [c1 2 _ (by omega)]; exact g5⟩
  · rcases c.2.2.2.2 f x with q | q
    · exact Or.inl (Or.inr (Or.inr (hQ f x hx q)))
    · rcases a4 f x hx with w | w
      · exact Or.inl w
      · exact Or.inr ⟨q.1.trans w.1, q.2.trans w.2⟩
theorem Rep.evo {h0 h : Hp} {m : Nat} {O : List Nat} {s : Nat → Nat} {P : List Nat} {K : Nat} (k : Rep h0 h m O s P K) (hK : K ≠ 0) (hO0 : ∀ b ∈ O, kd h0 b ≠ 0) (nd : O.Nodup) (hm : kd h0 m ≠ 0) (mO : m ∉ O) : Evo (fun _ _ => False) h0 h m O s := by
  obtain ⟨k1, k2, k3, k4, k5, k6, k7⟩ := id k
  refine ⟨k.ex, fun x hx => ?_, ?_, fun f b hb => ?_, fun q _ => k7 q⟩
  · by_cases q : x ∈ P
    · obtain ⟨g1, g2, g3, g4, g5⟩ := k2 x q
      exact ⟨Or.inr g1, by rw [g2]; exact hK, g3, g4, g5⟩
    · rw [k1 x q]
      have x0 := hO0 x hx
      have xm : x ≠ m := fun e => mO (e ▸ hx)
      have g : ∀ f, f = 1 ∨ f = 2 → rf h f x = rf h0 f x := fun f hf => by
        rcases (k6 f x x0).2 with w | w | w
        · exact absurd w.1 xm
        · omega
        · exact w
      exact ⟨Or.inl rfl, by rw [(k4 x x0).1]; exact x0, (k6 0 x x0).1, g 1 (by omega), g 2 (by omega)⟩
  · rw [List.Nodup, List.pairwise_map]
    refine List.Pairwise.imp_of_mem (fun {x y} hx hy hxy e => ?_) nd
    have inj : ∀ (L : List Nat), (L.map s).Nodup → x ∈ L → y ∈ L → s x = s y → x = y := by
      intro L
      induction L with
      | nil => intro _ hx; cases hx
      | cons c L ih =>
        intro hn hx hy e
        rw [List.map_cons, List.nodup_cons] at hn
        rcases List.mem_cons.mp hx with q1 | q1
        · rcases List.mem_cons.mp hy with q2 | q2
          · rw [q1, q2]
          · exact absurd (List.mem_map.mpr ⟨y, q2, by rw [← e, q1]⟩) hn.1
        · rcases List.mem_cons.mp hy with q2 | q2
          · exact absurd (List.mem_map.mpr ⟨x, q1, by rw [e, q2]⟩) hn.1
          · exact ih hn.2 q1 q2 e
    by_cases qx : x ∈ P
    · by_cases qy : y ∈ P
      · exact hxy (inj P k3 qx qy e)
      · rw [k1 y qy] at e
        have := (k2 x qx).1
        rw [e] at this
        exact hO0 y hy this
    · rw [k1 x qx] at e
      by_cases qy : y ∈ P
      · have := (k2 y qy).1
        rw [← e] at this
        exact hO0 x hx this
      · rw [k1 y qy] at e
        exact hxy e
  · rcases (k6 f b hb).2 with w | w | w
    · exact Or.inl (Or.inl w)
    · exact Or.inl (Or.inr (Or.inl w))
    · exact Or.inr ⟨w, (k6 f b hb).1⟩
theorem Evo.ints {P : Nat → Nat → Prop} {h0 h : Hp} {m : Nat} {O : List Nat} {s : Nat → Nat} (a : Evo P h0 h m O s) (hm : kd h0 m = 2 ∨ kd h0 m = 3) (hO : ∀ x ∈ O, 5 ≤ kd h0 x ∧ kd h0 x ≤ 7) (hP : ∀ f x, P f x → kd h0 x ≠ 4 ∧ kd h0 x ≠ 60) : IntS h0 h := fun b hb => by
  have b0 : kd h0 b ≠ 0 := by omega
  refine ⟨(a.1.1 b b0).1, ?_⟩
  rcases a.2.2.2.1 23 b b0 with q | q
  · rcases q with q | q | q
    · rw [q.1] at hb; omega
    · have := hO b q.1; omega
    · have := hP _ _ q; omega
  · exact q.2
theorem Evo.prs {P : Nat → Nat → Prop} {h0 h : Hp} {m : Nat} {O : List Nat} {s : Nat → Nat} (a : Evo P h0 h m O s) (hI : IntS h0 h) (hok : ∀ x ∈ O, NodeOK h0 x) : (O.map s).map (pr h) = O.map (pr h0) ∧ ∀ x ∈ O.map s, NodeOK h x := by
  refine ⟨?_, fun x hx => ?_⟩
  · rw [List.map_map]
    apply List.map_congr_left
    intro x hx
    obtain ⟨-, -, g3, g4, g5⟩ := a.2.1 x hx
    exact pr_fra (hok x hx) hI g4 g5
  · obtain ⟨y, hy, rfl⟩ := List.mem_map.mp hx
    obtain ⟨-, -, g3, g4, g5⟩ := a.2.1 y hy
    exact (hok y hy).fra hI g3 g4 g5
