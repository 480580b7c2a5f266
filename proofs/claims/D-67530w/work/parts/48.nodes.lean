/-! NEW NODES; the linked order -/
set_option maxRecDepth 100000
theorem NXs_re {h h' : Hp} {f : Nat} {e e' : Option Nat} {X : List Nat} (k : NXs h f X e) (nd : X.Nodup) (hl : ∀ l, X.getLast? = some l → rf h' f l = e') (hs : ∀ a ∈ X, X.getLast? ≠ some a → rf h' f a = rf h f a) : NXs h' f X e' := by
  by_cases hX : X = []
  · subst hX; trivial
  · obtain ⟨X0, l, rfl⟩ := split_last hX
    refine NXs_last k (fun a ha => hs a (List.mem_append_left _ ha) (fun q => ?_)) (hl l (by simp))
    simp at q
    subst q
    exact (List.nodup_append.mp nd).2.2 l ha l List.mem_cons_self rfl
theorem PVs_re {h h' : Hp} {f : Nat} {p p' : Option Nat} {Y : List Nat} (k : PVs h f p Y) (nd : Y.Nodup) (hl : ∀ c, Y.head? = some c → rf h' f c = p') (hs : ∀ a ∈ Y, Y.head? ≠ some a → rf h' f a = rf h f a) : PVs h' f p' Y := by
  cases Y with
  | nil => trivial
  | cons c Y =>
    refine PVs_first k (fun a ha => hs a (List.mem_cons_of_mem _ ha) (fun q => ?_)) (hl c rfl)
    simp at q
    subst q
    exact (List.nodup_cons.mp nd).1 ha
/-- the linked order of a LinkedHashMap -/
def DL (h : Hp) (m : Nat) (O : List Nat) : Prop := rf h 19 m = O.head? ∧ rf h 20 m = O.getLast? ∧ NXs h 5 O none ∧ PVs h 4 none O
theorem DL.fra {h h' : Hp} {m : Nat} {O : List Nat} (k : DL h m O) (e1 : rf h' 19 m = rf h 19 m) (e2 : rf h' 20 m = rf h 20 m) (e3 : ∀ a ∈ O, rf h' 5 a = rf h 5 a) (e4 : ∀ a ∈ O, rf h' 4 a = rf h 4 a) : DL h' m O := ⟨e1.trans k.1, e2.trans k.2.1, NXs_fr e3 k.2.2.1, PVs_fr e4 k.2.2.2⟩
theorem DL.at {h : Hp} {m : Nat} {X Y : List Nat} {p : Nat} (k : DL h m (X ++ p :: Y)) : rf h 4 p = X.getLast? ∧ rf h 5 p = Y.head? := by
  have h1 := NXs_at k.2.2.1
  have h2 := PVs_at k.2.2.2
  simp at h1 h2
  exact ⟨h2, h1⟩
theorem mem_last {X : List Nat} {l : Nat} (h : X.getLast? = some l) : l ∈ X := List.mem_of_getLast? h
/-- p goes, a comes in its place -/
theorem DL.repl {h h' : Hp} {m : Nat} {X Y : List Nat} {p a : Nat} (k : DL h m (X ++ p :: Y)) (nd : (X ++ p :: Y).Nodup) (a4 : rf h' 4 a = X.getLast?) (a5 : rf h' 5 a = Y.head?)
    (x5 : ∀ b, X.getLast? = some b → rf h' 5 b = some a) (y4 : ∀ c, Y.head? = some c → rf h' 4 c = some a) (m19 : rf h' 19 m = if X = [] then some a else rf h 19 m) (m20 : rf h' 20 m = if Y = [] then some a else rf h 20 m)
    (s5 : ∀ b ∈ X ++ Y, X.getLast? ≠ some b → rf h' 5 b = rf h 5 b) (s4 : ∀ b ∈ X ++ Y, Y.head? ≠ some b → rf h' 4 b = rf h 4 b) : DL h' m (X ++ a :: Y) := by
  obtain ⟨k1, k2, k3, k4⟩ := k
  have nd' := List.nodup_append.mp nd
  have ndY := (List.nodup_cons.mp nd'.2.1).2
  obtain ⟨n1, n2, n3⟩ := (NXs_app h 5 none X (p :: Y)).mp k3
  obtain ⟨p1, p2, p3⟩ := (PVs_app h 4 none X (p :: Y)).mp k4
  have dis : ∀ b, b ∈ X → b ∉ Y := fun b hb hy => nd'.2.2 b hb b (List.mem_cons_of_mem _ hy) rfl
  refine ⟨?_, ?_, (NXs_app h' 5 none X (a :: Y)).mpr ⟨?_, ?_, ?_⟩, (PVs_app h' 4 none X (a :: Y)).mpr ⟨?_, ?_, ?_⟩⟩
  · rw [m19]
    cases X with
    | nil => simp
    | cons x X => rw [if_neg (by simp), k1]; simp
  · rw [m20]
    by_cases hY : Y = []
    · rw [if_pos hY, hY]; simp
    · rw [if_neg hY, k2]
      obtain ⟨Y0, l, rfl⟩ := split_last hY
      rw [show X ++ p :: (Y0 ++ [l]) = (X ++ p :: Y0) ++ [l] by simp, show X ++ a :: (Y0 ++ [l]) = (X ++ a :: Y0) ++ [l] by simp]
      simp only [List.getLast?_append, List.getLast?_singleton, Option.some_or]
  · exact NXs_re n1 nd'.1 x5 (fun b hb q => s5 b (List.mem_append_left _ hb) q)
  · rw [a5]; simp
  · exact NXs_fr (fun b hb => s5 b (List.mem_append_right _ hb) (fun q => dis b (mem_last q) hb)) n3
  · exact PVs_fr (fun b hb => s4 b (List.mem_append_left _ hb) (fun q => dis b hb (List.mem_of_mem_head? q))) p1
  · rw [a4]; simp
  · exact PVs_re p3 ndY y4 (fun b hb q => s4 b (List.mem_append_right _ hb) q)
/-- p goes -/
theorem DL.del {h h' : Hp} {m : Nat} {X Y : List Nat} {p : Nat} (k : DL h m (X ++ p :: Y)) (nd : (X ++ p :: Y).Nodup)
    (x5 : ∀ b, X.getLast? = some b → rf h' 5 b = Y.head?) (y4 : ∀ c, Y.head? = some c → rf h' 4 c = X.getLast?) (m19 : rf h' 19 m = if X = [] then Y.head? else rf h 19 m) (m20 : rf h' 20 m = if Y = [] then X.getLast? else rf h 20 m)
    (s5 : ∀ b ∈ X ++ Y, X.getLast? ≠ some b → rf h' 5 b = rf h 5 b) (s4 : ∀ b ∈ X ++ Y, Y.head? ≠ some b → rf h' 4 b = rf h 4 b) : DL h' m (X ++ Y) := by
  obtain ⟨k1, k2, k3, k4⟩ := k
  have nd' := List.nodup_append.mp nd
  have ndY := (List.nodup_cons.mp nd'.2.1).2
  obtain ⟨n1, n2, n3⟩ := (NXs_app h 5 none X (p :: Y)).mp k3
  obtain ⟨p1, p2, p3⟩ := (PVs_app h 4 none X (p :: Y)).mp k4
  have dis : ∀ b, b ∈ X → b ∉ Y := fun b hb hy => nd'.2.2 b hb b (List.mem_cons_of_mem _ hy) rfl
  refine ⟨?_, ?_, (NXs_app h' 5 none X Y).mpr ⟨?_, ?_⟩, (PVs_app h' 4 none X Y).mpr ⟨?_, ?_⟩⟩
  · rw [m19]
    cases X with
    | nil => simp
    | cons x X => rw [if_neg (by simp), k1]; simp
  · rw [m20]
    by_cases hY : Y = []
    · rw [if_pos hY, hY]; simp
    · rw [if_neg hY, k2]
      obtain ⟨Y0, l, rfl⟩ := split_last hY
      rw [show X ++ p :: (Y0 ++ [l]) = (X ++ p :: Y0) ++ [l] by simp, show X ++ (Y0 ++ [l]) = (X ++ Y0) ++ [l] by simp]
      simp only [List.getLast?_append, List.getLast?_singleton, Option.some_or]
  · exact NXs_re n1 nd'.1 (fun b hb => by rw [x5 b hb]; simp) (fun b hb q => s5 b (List.mem_append_left _ hb) q)
  · exact NXs_fr (fun b hb => s5 b (List.mem_append_right _ hb) (fun q => dis b (mem_last q) hb)) n3
  · exact PVs_fr (fun b hb => s4 b (List.mem_append_left _ hb) (fun q => dis b hb (List.mem_of_mem_head? q))) p1
  · exact PVs_re p3 ndY (fun c hc => by rw [y4 c hc]; simp) (fun b hb q => s4 b (List.mem_append_right _ hb) q)
/-- a comes behind all -/
theorem DL.push {h h' : Hp} {m : Nat} {O : List Nat} {a : Nat} (k : DL h m O) (nd : O.Nodup) (a4 : rf h' 4 a = O.getLast?) (a5 : rf h' 5 a = none) (x5 : ∀ b, O.getLast? = some b → rf h' 5 b = some a) (m19 : rf h' 19 m = if O = [] then some a else rf h 19 m) (m20 : rf h' 20 m = some a)
    (s5 : ∀ b ∈ O, O.getLast? ≠ some b → rf h' 5 b = rf h 5 b) (s4 : ∀ b ∈ O, rf h' 4 b = rf h 4 b) : DL h' m (O ++ [a]) := by
  obtain ⟨k1, k2, k3, k4⟩ := k
  refine ⟨?_, by rw [m20]; simp, (NXs_app h' 5 none O [a]).mpr ⟨?_, ?_, trivial⟩, (PVs_app h' 4 none O [a]).mpr ⟨PVs_fr s4 k4, ?_, trivial⟩⟩
  · rw [m19]
    cases O with
    | nil => simp
    | cons x X => rw [if_neg (by simp), k1]; simp
  · exact NXs_re k3 nd x5 s5
  · rw [a5]; rfl
  · rw [a4]; simp
/-! a new node's cell -/
def nodeH (h : Hp) (a K : Nat) (z : Int32) (ko vo nx : Option Nat) : Hp := wR (wR (wR (wI (nw h a K 0) 0 a z) 1 a ko) 2 a vo) 3 a nx
theorem nodeH_ne {h : Hp} {a K : Nat} {z : Int32} {ko vo nx : Option Nat} {b : Nat} (hb : b ≠ a) (f : Nat) : rf (nodeH h a K z ko vo nx) f b = rf h f b ∧ it (nodeH h a K z ko vo nx) f b = it h f b ∧ kd (nodeH h a K z ko vo nx) b = kd h b ∧ ln (nodeH h a K z ko vo nx) b = ln h b := by
  unfold nodeH
  refine ⟨?_, ?_, ?_, ?_⟩
  · simp [rf_wR, rf_wI, rf_nw, hb]
  · simp [it_wR, it_wI, it_nw, hb]
  · simp [kd_wR, kd_wI, kd_nw, hb]
  · simp [ln_wR, ln_wI, ln_nw, hb]
theorem nodeH_eq (h : Hp) (a K : Nat) (z : Int32) (ko vo nx : Option Nat) : it (nodeH h a K z ko vo nx) 0 a = z ∧ rf (nodeH h a K z ko vo nx) 1 a = ko ∧ rf (nodeH h a K z ko vo nx) 2 a = vo ∧ rf (nodeH h a K z ko vo nx) 3 a = nx ∧ kd (nodeH h a K z ko vo nx) a = K ∧ ∀ f, f ≠ 1 → f ≠ 2 → f ≠ 3 → rf (nodeH h a K z ko vo nx) f a = none := by
  unfold nodeH
  refine ⟨?_, ?_, ?_, ?_, ?_, fun f h1 h2 h3 => ?_⟩
  · simp [it_wR, it_wI]
  · simp [rf_wR]
  · simp [rf_wR]
  · simp [rf_wR]
  · simp [kd_wR, kd_wI, kd_nw]
  · simp [rf_wR, rf_wI, rf_nw, h1, h2, h3]
/-- a new node a of the map m (order O): its fields; nothing else has changed but the order's links -/
def NewN (h h' : Hp) (m : Nat) (O : List Nat) (a K : Nat) (z : Int32) (ko vo nx : Option Nat) : Prop :=
  kd h a = 0 ∧ kd h' a = K ∧ (∀ b, b ≠ a → kd h' b = kd h b ∧ ln h' b = ln h b) ∧ nc h' = nc h + 1 ∧ ns h' = ns h + szK K 0 ∧
  (it h' 0 a = z ∧ rf h' 1 a = ko ∧ rf h' 2 a = vo ∧ rf h' 3 a = nx ∧ ∀ f, f = 6 ∨ f = 7 ∨ f = 8 ∨ f = 9 → rf h' f a = none) ∧
  (∀ f b, b ≠ a → it h' f b = it h f b ∧ ((b = m ∧ (f = 19 ∨ f = 20)) ∨ (b ∈ O ∧ (f = 4 ∨ f = 5)) ∨ rf h' f b = rf h f b))
theorem nodeH_NewN {h : Hp} {m : Nat} {O : List Nat} {a K : Nat} {z : Int32} {ko vo nx : Option Nat} (ha : kd h a = 0) : NewN h (nodeH h a K z ko vo nx) m O a K z ko vo nx := by
  obtain ⟨e1, e2, e3, e4, e5, e6⟩ := nodeH_eq h a K z ko vo nx
  exact ⟨ha, e5, fun b hb => ⟨(nodeH_ne hb 0).2.2.1, (nodeH_ne hb 0).2.2.2⟩, rfl, rfl, ⟨e1, e2, e3, e4, fun f hf => e6 f (by omega) (by omega) (by omega)⟩, fun f b hb => ⟨(nodeH_ne hb f).2.1, Or.inr (Or.inr (nodeH_ne hb f).1)⟩⟩
theorem NewN.step {h h' : Hp} {m : Nat} {O : List Nat} {a K : Nat} {z : Int32} {ko vo nx : Option Nat} (k : NewN h h' m O a K z ko vo nx) {f b : Nat} (v : Option Nat) (hb : (b = a ∧ (f = 4 ∨ f = 5)) ∨ (b = m ∧ (f = 19 ∨ f = 20)) ∨ (b ∈ O ∧ (f = 4 ∨ f = 5))) (hma : m ≠ a) (hOa : a ∉ O) : NewN h (wR h' f b v) m O a K z ko vo nx := by
  obtain ⟨k1, k2, k3, k4, k5, ⟨g1, g2, g3, g4, g5⟩, k7⟩ := k
  have hf : f = 4 ∨ f = 5 ∨ f = 19 ∨ f = 20 := by omega
  refine ⟨k1, k2, k3, k4, k5, ⟨g1, ?_, ?_, ?_, fun g hg => ?_⟩, fun g c hc => ⟨(k7 g c hc).1, ?_⟩⟩
  · rw [rf_wR, if_neg (fun w => by omega)]; exact g2
  · rw [rf_wR, if_neg (fun w => by omega)]; exact g3
  · rw [rf_wR, if_neg (fun w => by omega)]; exact g4
  · rw [rf_wR, if_neg (fun w => by omega)]; exact g5 g hg
  · by_cases e : g = f ∧ c = b
    · obtain ⟨rfl, rfl⟩ := e
      rcases hb with w | w | w
      · exact absurd w.1 hc
      · exact Or.inl w
      · exact Or.inr (Or.inl w)
    · rw [rf_wR, if_neg e]; exact (k7 g c hc).2
theorem s_J6_init {h : Hp} {a : Nat} {z : Int32} {ko vo nx : Option Nat} {K : Hp → Prop} (k : K (wR (wR (wR (wI h 0 a z) 1 a ko) 2 a vo) 3 a nx)) : wp_J6_init h (some a) z ko vo nx K := by
  unfold wp_J6_init
  refine ⟨a, rfl, ?_⟩
  rintro h1 rfl h2 rfl h3 rfl h4 rfl
  exact k
theorem s_J7_init {h : Hp} {a : Nat} {z : Int32} {ko vo nx : Option Nat} {K : Hp → Prop} (k : K (wR (wR (wR (wI h 0 a z) 1 a ko) 2 a vo) 3 a nx)) : wp_J7_init h (some a) z ko vo nx K := by
  unfold wp_J7_init
  exact ⟨a, rfl, s_J6_init (fun _ => k)⟩
theorem s_J8_init {h : Hp} {a : Nat} {z : Int32} {ko vo nx : Option Nat} {K : Hp → Prop} (k : K (wR (wR (wR (wI h 0 a z) 1 a ko) 2 a vo) 3 a nx)) : wp_J8_init h (some a) z ko vo nx K := by
  unfold wp_J8_init
  exact ⟨a, rfl, s_J7_init (fun _ => k)⟩
theorem s_J1_newNode {h : Hp} {m : Nat} {O : List Nat} {z : Int32} {ko vo nx : Option Nat} {K : Option Nat → Hp → Prop} (hr : Rm h 1 4) (k : ∀ a h', NewN h h' m O a 5 z ko vo nx → K (some a) h') : wp_J1_newNode h (some m) z ko vo nx K := by
  unfold wp_J1_newNode
  refine ⟨hr, fun a ha => ?_⟩
  rintro h1 rfl
  exact s_J6_init (fun _ => k a _ (nodeH_NewN ha))
theorem s_J1_newTreeNode {h : Hp} {m : Nat} {O : List Nat} {z : Int32} {ko vo nx : Option Nat} {K : Option Nat → Hp → Prop} (hr : Rm h 1 11) (k : ∀ a h', NewN h h' m O a 7 z ko vo nx → K (some a) h') : wp_J1_newTreeNode h (some m) z ko vo nx K := by
  unfold wp_J1_newTreeNode
  refine ⟨hr, fun a ha => ?_⟩
  rintro h1 rfl
  exact s_J8_init (fun _ => k a _ (nodeH_NewN ha))
theorem s_linkNodeAtEnd {h h1 : Hp} {m : Nat} {O : List Nat} {a K0 : Nat} {z : Int32} {ko vo nx : Option Nat} {K : Hp → Prop} (hN : NewN h h1 m O a K0 z ko vo nx) (h1m : ∀ f, rf h1 f m = rf h f m) (h1O : ∀ f b, b ∈ O → rf h1 f b = rf h f b) (h15 : rf h1 5 a = none) (h14 : rf h1 4 a = none) (hm : m ≠ a) (hO : a ∉ O) (mO : m ∉ O) (nd : O.Nodup) (pm : it h 22 m = 0) (dl : DL h m O)
    (k : ∀ h', NewN h h' m O a K0 z ko vo nx → DL h' m (O ++ [a]) → K h') : wp_J2_linkNodeAtEnd h1 (some m) (some a) K := by
  unfold wp_J2_linkNodeAtEnd
  have p1 : it h1 22 m = 0 := by rw [(hN.2.2.2.2.2.2 22 m hm).1]; exact pm
  refine ⟨m, rfl, fun _ => ?_, (fun q => by rw [p1] at q; cases q)⟩
  rintro h2 rfl
  have hN2 := hN.step (f := 20) (b := m) (some a) (Or.inr (Or.inl ⟨rfl, Or.inr rfl⟩)) hm hO
  rw [h1m 20, dl.2.1]
  refine ⟨fun q => ?_, fun l hl => ?_⟩
  · have hO0 : O = [] := by
      cases O with
      | nil => rfl
      | cons x X => simp [List.getLast?_cons] at q
    subst hO0
    rintro h3 rfl
    unfold wp_J2_linkNodeAtEnd_b75
    refine k _ (hN2.step (f := 19) (b := m) (some a) (Or.inr (Or.inl ⟨rfl, Or.inl rfl⟩)) hm hO) (dl.push nd ?_ ?_ (fun b hb => by cases hb) ?_ ?_ (fun b hb => by cases hb) (fun b hb => by cases hb))
    · simp [rf_wR, h14]
    · simp [rf_wR, h15]
    · simp [rf_wR]
    · simp [rf_wR]
  · have lO : l ∈ O := mem_last hl
    have la : l ≠ a := fun e => hO (e ▸ lO)
    have lm : l ≠ m := fun e => mO (e ▸ lO)
    have am : a ≠ m := Ne.symm hm
    refine ⟨a, rfl, ?_⟩
    rintro h3 rfl h4 rfl
    unfold wp_J2_linkNodeAtEnd_b75
    refine k _ ((hN2.step (f := 4) (b := a) _ (Or.inl ⟨rfl, Or.inl rfl⟩) hm hO).step (f := 5) (b := l) _ (Or.inr (Or.inr ⟨lO, Or.inr rfl⟩)) hm hO) (dl.push nd ?_ ?_ (fun b hb => ?_) ?_ ?_ (fun b hb q => ?_) (fun b hb => ?_))
    · simp [rf_wR]
    · simp [rf_wR, la.symm, h15]
    · rw [hl] at hb; cases hb; simp [rf_wR]
    · rw [if_neg (fun e => by rw [e] at lO; cases lO)]
      simp [rf_wR, h1m]
    · simp [rf_wR]
    · have : b ≠ l := fun e => q (by rw [hl, e])
      simp [rf_wR, this, h1O 5 b hb]
    · have : b ≠ a := fun e => hO (e ▸ hb)
      simp [rf_wR, this, h1O 4 b hb]
theorem s_J2_newNode {h : Hp} {m : Nat} {O : List Nat} {z : Int32} {ko vo nx : Option Nat} {K : Option Nat → Hp → Prop} (hr : Rm h 1 6) (hm : kd h m ≠ 0) (hO : ∀ b ∈ O, kd h b ≠ 0) (mO : m ∉ O) (nd : O.Nodup) (pm : it h 22 m = 0) (dl : DL h m O) (k : ∀ a h', NewN h h' m O a 6 z ko vo nx → DL h' m (O ++ [a]) → K (some a) h') : wp_J2_newNode h (some m) z ko vo nx K := by
  unfold wp_J2_newNode
  refine ⟨hr, fun a ha => ?_⟩
  rintro h1 rfl
  refine s_J7_init (fun _ => ⟨m, rfl, ?_⟩)
  have ma : m ≠ a := fun e => hm (e ▸ ha)
  have aO : a ∉ O := fun e => hO a e ha
  exact s_linkNodeAtEnd (nodeH_NewN (z := z) (ko := ko) (vo := vo) (nx := nx) (K := 6) ha) (fun f => (nodeH_ne ma f).1) (fun f b hb => (nodeH_ne (b := b) (a := a) (fun (e : b = a) => aO (e ▸ hb)) f).1) ((nodeH_eq h a 6 z ko vo nx).2.2.2.2.2 5 (by decide) (by decide) (by decide)) ((nodeH_eq h a 6 z ko vo nx).2.2.2.2.2 4 (by decide) (by decide) (by decide)) ma aO mO nd pm dl (fun h' e1 e2 _ => k a h' e1 e2)
theorem s_J2_newTreeNode {h : Hp} {m : Nat} {O : List Nat} {z : Int32} {ko vo nx : Option Nat} {K : Option Nat → Hp → Prop} (hr : Rm h 1 11) (hm : kd h m ≠ 0) (hO : ∀ b ∈ O, kd h b ≠ 0) (mO : m ∉ O) (nd : O.Nodup) (pm : it h 22 m = 0) (dl : DL h m O) (k : ∀ a h', NewN h h' m O a 7 z ko vo nx → DL h' m (O ++ [a]) → K (some a) h') : wp_J2_newTreeNode h (some m) z ko vo nx K := by
  unfold wp_J2_newTreeNode
  refine ⟨hr, fun a ha => ?_⟩
  rintro h1 rfl
  refine s_J8_init (fun _ => ⟨m, rfl, ?_⟩)
  have ma : m ≠ a := fun e => hm (e ▸ ha)
  have aO : a ∉ O := fun e => hO a e ha
  exact s_linkNodeAtEnd (nodeH_NewN (z := z) (ko := ko) (vo := vo) (nx := nx) (K := 7) ha) (fun f => (nodeH_ne ma f).1) (fun f b hb => (nodeH_ne (b := b) (a := a) (fun (e : b = a) => aO (e ▸ hb)) f).1) ((nodeH_eq h a 7 z ko vo nx).2.2.2.2.2 5 (by decide) (by decide) (by decide)) ((nodeH_eq h a 7 z ko vo nx).2.2.2.2.2 4 (by decide) (by decide) (by decide)) ma aO mO nd pm dl (fun h' e1 e2 _ => k a h' e1 e2)
/-! replacements -/
theorem s_J1_replacementNode {h : Hp} {m p : Nat} {O : List Nat} {nx : Option Nat} {K : Option Nat → Hp → Prop} (hr : Rm h 1 4) (hp : kd h p ≠ 0) (k : ∀ a h', NewN h h' m O a 5 (it h 0 p) (rf h 1 p) (rf h 2 p) nx → K (some a) h') : wp_J1_replacementNode h (some m) (some p) nx K := by
  unfold wp_J1_replacementNode
  refine ⟨hr, fun a ha => ?_⟩
  rintro h1 rfl
  have pa : p ≠ a := fun e => hp (e ▸ ha)
  refine ⟨p, rfl, ?_⟩
  rw [it_nw, if_neg pa, rf_nw, if_neg pa, rf_nw, if_neg pa]
  exact s_J6_init (fun _ => k a _ (nodeH_NewN ha))
theorem s_J1_replacementTreeNode {h : Hp} {m p : Nat} {O : List Nat} {nx : Option Nat} {K : Option Nat → Hp → Prop} (hr : Rm h 1 11) (hp : kd h p ≠ 0) (k : ∀ a h', NewN h h' m O a 7 (it h 0 p) (rf h 1 p) (rf h 2 p) nx → K (some a) h') : wp_J1_replacementTreeNode h (some m) (some p) nx K := by
  unfold wp_J1_replacementTreeNode
  refine ⟨hr, fun a ha => ?_⟩
  rintro h1 rfl
  have pa : p ≠ a := fun e => hp (e ▸ ha)
  refine ⟨p, rfl, ?_⟩
  rw [it_nw, if_neg pa, rf_nw, if_neg pa, rf_nw, if_neg pa]
  exact s_J8_init (fun _ => k a _ (nodeH_NewN ha))
theorem s_transferLinks {h h1 : Hp} {m p : Nat} {X Y : List Nat} {a K0 : Nat} {z : Int32} {ko vo nx : Option Nat} {K : Hp → Prop} (hN : NewN h h1 m (X ++ p :: Y) a K0 z ko vo nx) (h1m : ∀ f, rf h1 f m = rf h f m) (h1O : ∀ f b, b ∈ X ++ p :: Y → rf h1 f b = rf h f b) (hm : m ≠ a) (hO : a ∉ X ++ p :: Y) (mO : m ∉ X ++ p :: Y) (nd : (X ++ p :: Y).Nodup) (dl : DL h m (X ++ p :: Y))
    (k : ∀ h', NewN h h' m (X ++ p :: Y) a K0 z ko vo nx → DL h' m (X ++ a :: Y) → K h') : wp_J2_transferLinks h1 (some m) (some p) (some a) K := by
  have pO : p ∈ X ++ p :: Y := List.mem_append_right _ List.mem_cons_self
  have pa : p ≠ a := fun e => hO (e ▸ pO)
  have am : a ≠ m := Ne.symm hm
  have pm : p ≠ m := fun e => mO (e ▸ pO)
  obtain ⟨d4, d5⟩ := dl.at
  have nd' := List.nodup_append.mp nd
  have c4 : rf h1 4 p = X.getLast? := by rw [h1O 4 p pO]; exact d4
  have c5 : rf (wR h1 4 a X.getLast?) 5 p = Y.head? := by rw [rf_wR, if_neg (fun w => by omega), h1O 5 p pO]; exact d5
  unfold wp_J2_transferLinks
  refine ⟨p, rfl, a, rfl, ?_⟩
  rw [c4]
  rintro h2 rfl h3 rfl
  rw [c5]
  have N1 := (hN.step (f := 4) (b := a) X.getLast? (Or.inl ⟨rfl, Or.inl rfl⟩) hm hO).step (f := 5) (b := a) Y.head? (Or.inl ⟨rfl, Or.inr rfl⟩) hm hO
  have sub1 : ∀ b, b ∈ X ++ Y → b ∈ X ++ p :: Y := fun b hb => by
    rcases List.mem_append.mp hb with q | q
    · exact List.mem_append_left _ q
    · exact List.mem_append_right _ (List.mem_cons_of_mem _ q)
  have nea : ∀ b, b ∈ X ++ Y → b ≠ a := fun b hb e => hO (e ▸ sub1 b hb)
  have nem : ∀ b, b ∈ X ++ Y → b ≠ m := fun b hb e => mO (e ▸ sub1 b hb)
  have dis : ∀ b, b ∈ X → b ∉ Y := fun b hb hy => nd'.2.2 b hb b (List.mem_cons_of_mem _ hy) rfl
  refine ⟨fun q => ?_, fun l hl => ?_⟩
  · have hX : X = [] := by
      cases X with
      | nil => rfl
      | cons x X => simp [List.getLast?_cons] at q
    subst hX
    refine ⟨m, rfl, ?_⟩
    rintro h4 rfl
    have N2 := N1.step (f := 19) (b := m) (some a) (Or.inr (Or.inl ⟨rfl, Or.inl rfl⟩)) hm hO
    unfold wp_J2_transferLinks_b38
    refine ⟨fun q => ⟨m, rfl, ?_⟩, fun c hc => ?_⟩
    · have hY : Y = [] := by cases Y with | nil => rfl | cons x Y => cases q
      subst hY
      rintro h5 rfl
      unfold wp_J2_transferLinks_b57
      refine k _ (N2.step (f := 20) (b := m) (some a) (Or.inr (Or.inl ⟨rfl, Or.inr rfl⟩)) hm hO) (dl.repl nd ?_ ?_ (fun b hb => by cases hb) (fun b hb => by cases hb) ?_ ?_ (fun b hb => by cases hb) (fun b hb => by cases hb))
      · simp [rf_wR]
      · simp [rf_wR]
      · simp [rf_wR]
      · simp [rf_wR]
    · have cY : c ∈ Y := List.mem_of_mem_head? hc
      have cO : c ∈ [] ++ p :: Y := List.mem_cons_of_mem _ cY
      have ca : c ≠ a := nea c (List.mem_append_right _ cY)
      have cm : c ≠ m := nem c (List.mem_append_right _ cY)
      rintro h5 rfl
      unfold wp_J2_transferLinks_b57
      refine k _ (N2.step (f := 4) (b := c) (some a) (Or.inr (Or.inr ⟨cO, Or.inl rfl⟩)) hm hO) (dl.repl nd ?_ ?_ (fun b hb => by cases hb) (fun b hb => ?_) ?_ ?_ (fun b hb _ => ?_) (fun b hb q => ?_))
      · simp [rf_wR, ca.symm]
      · simp [rf_wR]
      · rw [hc] at hb; cases hb; simp [rf_wR]
      · simp [rf_wR, am]
      · have : Y ≠ [] := fun e => by rw [e] at cY; cases cY
        rw [if_neg this]
        simp [rf_wR, am, h1m]
      · simp [rf_wR, nea b hb, h1O 5 b (sub1 b hb)]
      · have : b ≠ c := fun e => q (by rw [hc, e])
        simp [rf_wR, nea b hb, this, h1O 4 b (sub1 b hb)]
  · have lX : l ∈ X := mem_last hl
    have lXY : l ∈ X ++ Y := List.mem_append_left _ lX
    have lO := sub1 l lXY
    have la := nea l lXY
    have lm := nem l lXY
    have hX : X ≠ [] := fun e => by rw [e] at lX; cases lX
    rintro h4 rfl
    have N2 := N1.step (f := 5) (b := l) (some a) (Or.inr (Or.inr ⟨lO, Or.inr rfl⟩)) hm hO
    unfold wp_J2_transferLinks_b38
    refine ⟨fun q => ⟨m, rfl, ?_⟩, fun c hc => ?_⟩
    · have hY : Y = [] := by cases Y with | nil => rfl | cons x Y => cases q
      subst hY
      rintro h5 rfl
      unfold wp_J2_transferLinks_b57
      refine k _ (N2.step (f := 20) (b := m) (some a) (Or.inr (Or.inl ⟨rfl, Or.inr rfl⟩)) hm hO) (dl.repl nd ?_ ?_ (fun b hb => ?_) (fun b hb => by cases hb) ?_ ?_ (fun b hb q => ?_) (fun b hb _ => ?_))
      · simp [rf_wR]
      · simp [rf_wR, la.symm]
      · rw [hl] at hb; cases hb; simp [rf_wR]
      · rw [if_neg hX]
        simp [rf_wR, h1m]
      · simp [rf_wR]
      · have : b ≠ l := fun e => q (by rw [hl, e])
        simp [rf_wR, nea b hb, this, h1O 5 b (sub1 b hb)]
      · simp [rf_wR, nea b hb, h1O 4 b (sub1 b hb)]
    · have cY : c ∈ Y := List.mem_of_mem_head? hc
      have cXY : c ∈ X ++ Y := List.mem_append_right _ cY
      have cO := sub1 c cXY
      have ca := nea c cXY
      have cm := nem c cXY
      rintro h5 rfl
      unfold wp_J2_transferLinks_b57
      refine k _ (N2.step (f := 4) (b := c) (some a) (Or.inr (Or.inr ⟨cO, Or.inl rfl⟩)) hm hO) (dl.repl nd ?_ ?_ (fun b hb => ?_) (fun b hb => ?_) ?_ ?_ (fun b hb q => ?_) (fun b hb q => ?_))
      · simp [rf_wR, ca.symm]
      · simp [rf_wR, la.symm]
      · rw [hl] at hb; cases hb; simp [rf_wR]
      · rw [hc] at hb; cases hb; simp [rf_wR]
      · rw [if_neg hX]
        simp [rf_wR, h1m]
      · have : Y ≠ [] := fun e => by rw [e] at cY; cases cY
        rw [if_neg this]
        simp [rf_wR, h1m]
      · have : b ≠ l := fun e => q (by rw [hl, e])
        simp [rf_wR, nea b hb, this, h1O 5 b (sub1 b hb)]
      · have : b ≠ c := fun e => q (by rw [hc, e])
        simp [rf_wR, nea b hb, this, h1O 4 b (sub1 b hb)]
theorem s_J2_replacementNode {h : Hp} {m p : Nat} {X Y : List Nat} {nx : Option Nat} {K : Option Nat → Hp → Prop} (hr : Rm h 1 6) (hm : kd h m ≠ 0) (hp : kd h p = 6 ∨ kd h p = 7) (hO : ∀ b ∈ X ++ p :: Y, kd h b ≠ 0) (mO : m ∉ X ++ p :: Y) (nd : (X ++ p :: Y).Nodup) (dl : DL h m (X ++ p :: Y)) (k : ∀ a h', NewN h h' m (X ++ p :: Y) a 6 (it h 0 p) (rf h 1 p) (rf h 2 p) nx → DL h' m (X ++ a :: Y) → K (some a) h') : wp_J2_replacementNode h (some m) (some p) nx K := by
  unfold wp_J2_replacementNode
  refine ⟨fun a ha => by cases ha; rcases hp with e | e <;> rw [e] <;> decide, hr, fun a ha => ?_⟩
  rintro h1 rfl
  have ma : m ≠ a := fun e => hm (e ▸ ha)
  have aO : a ∉ X ++ p :: Y := fun e => hO a e ha
  have pa : p ≠ a := fun e => by rw [e, ha] at hp; omega
  refine ⟨p, rfl, ?_⟩
  rw [it_nw, if_neg pa, rf_nw, if_neg pa, rf_nw, if_neg pa]
  refine s_J7_init (fun _ => ⟨m, rfl, ?_⟩)
  exact s_transferLinks (nodeH_NewN (K := 6) ha) (fun f => (nodeH_ne ma f).1) (fun f b hb => (nodeH_ne (b := b) (a := a) (fun (e : b = a) => aO (e ▸ hb)) f).1) ma aO mO nd dl (fun h' e1 e2 _ => k a h' e1 e2)
theorem s_J2_replacementTreeNode {h : Hp} {m p : Nat} {X Y : List Nat} {nx : Option Nat} {K : Option Nat → Hp → Prop} (hr : Rm h 1 11) (hm : kd h m ≠ 0) (hp : kd h p = 6 ∨ kd h p = 7) (hO : ∀ b ∈ X ++ p :: Y, kd h b ≠ 0) (mO : m ∉ X ++ p :: Y) (nd : (X ++ p :: Y).Nodup) (dl : DL h m (X ++ p :: Y)) (k : ∀ a h', NewN h h' m (X ++ p :: Y) a 7 (it h 0 p) (rf h 1 p) (rf h 2 p) nx → DL h' m (X ++ a :: Y) → K (some a) h') : wp_J2_replacementTreeNode h (some m) (some p) nx K := by
  unfold wp_J2_replacementTreeNode
  refine ⟨fun a ha => by cases ha; rcases hp with e | e <;> rw [e] <;> decide, hr, fun a ha => ?_⟩
  rintro h1 rfl
  have ma : m ≠ a := fun e => hm (e ▸ ha)
  have aO : a ∉ X ++ p :: Y := fun e => hO a e ha
  have pa : p ≠ a := fun e => by rw [e, ha] at hp; omega
  refine ⟨p, rfl, ?_⟩
  rw [it_nw, if_neg pa, rf_nw, if_neg pa, rf_nw, if_neg pa]
  refine s_J8_init (fun _ => ⟨m, rfl, ?_⟩)
  exact s_transferLinks (nodeH_NewN (K := 7) ha) (fun f => (nodeH_ne ma f).1) (fun f b hb => (nodeH_ne (b := b) (a := a) (fun (e : b = a) => aO (e ▸ hb)) f).1) ma aO mO nd dl (fun h' e1 e2 _ => k a h' e1 e2)
