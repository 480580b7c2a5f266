/-! BASE: typed values of locals and stack; a typed view of the heap -/
set_option maxRecDepth 100000
abbrev TV : Type := Int32 ⊕ ((List Nat × Option Nat) ⊕ (Int64 ⊕ (UInt32 ⊕ UInt64)))
abbrev vI (x : Int32) : TV := Sum.inl x
/-- a reference: the kinds that it may have, and itself -/
abbrev vR (L : List Nat) (o : Option Nat) : TV := Sum.inr (Sum.inl (L, o))
abbrev vL (x : Int64) : TV := Sum.inr (Sum.inr (Sum.inl x))
abbrev vF (x : UInt32) : TV := Sum.inr (Sum.inr (Sum.inr (Sum.inl x)))
abbrev vD (x : UInt64) : TV := Sum.inr (Sum.inr (Sum.inr (Sum.inr x)))
def tv (t : TV) : Value := match t with
  | .inl x => .int x
  | .inr (.inl (_, o)) => va_rf o
  | .inr (.inr (.inl x)) => .long x
  | .inr (.inr (.inr (.inl x))) => .float x
  | .inr (.inr (.inr (.inr x))) => .double x
def t2 (t : TV) : Bool := match t with
  | .inr (.inr (.inl _)) => true
  | .inr (.inr (.inr (.inr _))) => true
  | _ => false
theorem tv_cat (t : TV) : (tv t).category = if t2 t = true then 2 else 1 := by
  rcases t with x | ⟨L, o⟩ | x | x | x
  · rfl
  · cases o <;> rfl
  · rfl
  · rfl
  · rfl
def lclr (x : Option TV) : Option TV := match x with
  | some u => bif t2 u then none else some u
  | none => none
theorem lclr_some {x : Option TV} {u : TV} (h : lclr x = some u) : x = some u ∧ t2 u = false := by
  cases x with
  | none => cases h
  | some w =>
    unfold lclr at h
    cases hw : t2 w with
    | true => simp [hw] at h
    | false =>
      simp [hw] at h
      subst h
      exact ⟨rfl, hw⟩
/-- a store of a value of one slot -/
def lset : List (Option TV) → Nat → TV → List (Option TV)
  | [], _, _ => []
  | _ :: l, 0, t => some t :: l
  | x :: l, 1, t => lclr x :: lset l 0 t
  | x :: l, n + 2, t => x :: lset l (n + 1) t
theorem lset_get (t : TV) : ∀ (l : List (Option TV)) (i k : Nat) (u : TV), (lset l i t)[k]? = some (some u) → (k = i ∧ u = t) ∨ (k ≠ i ∧ l[k]? = some (some u) ∧ ¬ (k + 1 = i ∧ t2 u = true))
  | [], i, k, u, h => by simp [lset] at h
  | x :: l, 0, k, u, h => by
    cases k with
    | zero =>
      simp only [lset, List.getElem?_cons_zero, Option.some.injEq] at h
      exact Or.inl ⟨rfl, h.symm⟩
    | succ k =>
      simp only [lset, List.getElem?_cons_succ] at h
      exact Or.inr ⟨by omega, by simpa using h, by omega⟩
  | x :: l, 1, k, u, h => by
    cases k with
    | zero =>
      simp only [lset, List.getElem?_cons_zero, Option.some.injEq] at h
      obtain ⟨h1, h2⟩ := lclr_some h
      exact Or.inr ⟨by omega, by simp [h1], by rw [h2]; simp⟩
    | succ k =>
      simp only [lset, List.getElem?_cons_succ] at h
      rcases lset_get t l 0 k u h with ⟨h1, h2⟩ | ⟨h1, h2, h3⟩
      · exact Or.inl ⟨by omega, h2⟩
      · exact Or.inr ⟨by omega, by simpa using h2, by omega⟩
  | x :: l, n + 2, k, u, h => by
    cases k with
    | zero =>
      simp only [lset, List.getElem?_cons_zero, Option.some.injEq] at h
      exact Or.inr ⟨by omega, by simp [h], by omega⟩
    | succ k =>
      simp only [lset, List.getElem?_cons_succ] at h
      rcases lset_get t l (n + 1) k u h with ⟨h1, h2⟩ | ⟨h1, h2, h3⟩
      · exact Or.inl ⟨by omega, h2⟩
      · exact Or.inr ⟨by omega, by simpa using h2, fun q => h3 ⟨by omega, q.2⟩⟩
/-- a store of a value of two slots -/
def lset2 : List (Option TV) → Nat → TV → List (Option TV)
  | [], _, _ => []
  | [_], 0, t => [some t]
  | _ :: _ :: l, 0, t => some t :: none :: l
  | x :: l, 1, t => lclr x :: lset2 l 0 t
  | x :: l, n + 2, t => x :: lset2 l (n + 1) t
theorem lset2_get (t : TV) : ∀ (l : List (Option TV)) (i k : Nat) (u : TV), (lset2 l i t)[k]? = some (some u) → (k = i ∧ u = t) ∨ (k ≠ i ∧ k ≠ i + 1 ∧ l[k]? = some (some u) ∧ ¬ (k + 1 = i ∧ t2 u = true))
  | [], i, k, u, h => by simp [lset2] at h
  | [x], 0, k, u, h => by
    cases k with
    | zero =>
      simp only [lset2, List.getElem?_cons_zero, Option.some.injEq] at h
      exact Or.inl ⟨rfl, h.symm⟩
    | succ k => simp [lset2] at h
  | x :: y :: l, 0, k, u, h => by
    match k, h with
    | 0, h =>
      simp only [lset2, List.getElem?_cons_zero, Option.some.injEq] at h
      exact Or.inl ⟨rfl, h.symm⟩
    | 1, h => simp [lset2] at h
    | k + 2, h =>
      simp only [lset2, List.getElem?_cons_succ] at h
      exact Or.inr ⟨by omega, by omega, by simpa using h, by omega⟩
  | x :: l, 1, k, u, h => by
    cases k with
    | zero =>
      simp only [lset2, List.getElem?_cons_zero, Option.some.injEq] at h
      obtain ⟨h1, h2⟩ := lclr_some h
      exact Or.inr ⟨by omega, by omega, by simp [h1], by rw [h2]; simp⟩
    | succ k =>
      simp only [lset2, List.getElem?_cons_succ] at h
      rcases lset2_get t l 0 k u h with ⟨h1, h2⟩ | ⟨h1, h1', h2, h3⟩
      · exact Or.inl ⟨by omega, h2⟩
      · exact Or.inr ⟨by omega, by omega, by simpa using h2, by omega⟩
  | x :: l, n + 2, k, u, h => by
    cases k with
    | zero =>
      simp only [lset2, List.getElem?_cons_zero, Option.some.injEq] at h
      exact Or.inr ⟨by omega, by omega, by simp [h], by omega⟩
    | succ k =>
      simp only [lset2, List.getElem?_cons_succ] at h
      rcases lset2_get t l (n + 1) k u h with ⟨h1, h2⟩ | ⟨h1, h1', h2, h3⟩
      · exact Or.inl ⟨by omega, h2⟩
      · exact Or.inr ⟨by omega, by omega, by simpa using h2, fun q => h3 ⟨by omega, q.2⟩⟩
def prs : List (Option TV) → Nat → List (Nat × Value)
  | [], _ => []
  | none :: l, n => prs l (n + 1)
  | some t :: l, n => (n, tv t) :: prs l (n + 1)
theorem prs_mem : ∀ (l : List (Option TV)) (n : Nat) (q : Nat × Value), q ∈ prs l n → ∃ j t, l[j]? = some (some t) ∧ q = (n + j, tv t)
  | [], n, q, h => by cases h
  | none :: l, n, q, h => by
    obtain ⟨j, t, h1, h2⟩ := prs_mem l (n + 1) q h
    exact ⟨j + 1, t, by simpa using h1, by rw [h2]; congr 1; omega⟩
  | some t :: l, n, q, h => by
    rcases List.mem_cons.mp h with h | h
    · exact ⟨0, t, rfl, h⟩
    · obtain ⟨j, t, h1, h2⟩ := prs_mem l (n + 1) q h
      exact ⟨j + 1, t, by simpa using h1, by rw [h2]; congr 1; omega⟩
theorem mem_prs : ∀ (l : List (Option TV)) (n j : Nat) (t : TV), l[j]? = some (some t) → (n + j, tv t) ∈ prs l n
  | [], n, j, t, h => by simp at h
  | none :: l, n, j, t, h => by
    cases j with
    | zero => simp at h
    | succ j =>
      have := mem_prs l (n + 1) j t (by simpa using h)
      rw [show n + 1 + j = n + (j + 1) by omega] at this
      exact this
  | some u :: l, n, j, t, h => by
    cases j with
    | zero =>
      simp at h
      subst h
      exact List.mem_cons_self
    | succ j =>
      have := mem_prs l (n + 1) j t (by simpa using h)
      rw [show n + 1 + j = n + (j + 1) by omega] at this
      exact List.mem_cons_of_mem _ this
/-- the locals hold the listed values -/
def LVok (ls : Array Slot) (nL : Nat) (lv : List (Option TV)) : Prop := lv_has ls nL (prs lv 0)
theorem LVok.get {ls : Array Slot} {nL : Nat} {lv : List (Option TV)} (h : LVok ls nL lv) {k : Nat} {t : TV} (hk : lv[k]? = some (some t)) : ls[k]? = some (.val (tv t)) := by
  have := h.2.2 _ (mem_prs lv 0 k t hk)
  simpa using this
theorem LVok.st1 {ls' : Array Slot} {nL i : Nat} {lv : List (Option TV)} {t : TV} (h : lv_has ls' nL ((i, tv t) :: (prs lv 0).filter (fun q => !(q.1 == i) && !(q.1 + 1 == i && q.2.category == 2)))) : LVok ls' nL (lset lv i t) := by
  refine ⟨h.1, h.2.1, fun q hq => h.2.2 q ?_⟩
  obtain ⟨j, u, h1, h2⟩ := prs_mem _ _ _ hq
  rw [Nat.zero_add] at h2
  rcases lset_get t lv i j u h1 with ⟨rfl, rfl⟩ | ⟨g1, g2, g3⟩
  · rw [h2]; exact List.mem_cons_self
  · refine List.mem_cons_of_mem _ (List.mem_filter.mpr ⟨?_, ?_⟩)
    · rw [h2]
      have := mem_prs lv 0 j u g2
      simpa using this
    · rw [h2]
      simp only [tv_cat]
      by_cases e : j + 1 = i
      · have : t2 u = false := by
          cases hu : t2 u with
          | false => rfl
          | true => exact absurd ⟨e, hu⟩ g3
        simp [g1, e, this]
      · simp [g1, e]
theorem LVok.st2 {ls' : Array Slot} {nL i : Nat} {lv : List (Option TV)} {t : TV} (h : lv_has ls' nL ((i, tv t) :: (prs lv 0).filter (fun q => !(q.1 == i) && (!(q.1 == i + 1) && !(q.1 + 1 == i && q.2.category == 2))))) : LVok ls' nL (lset2 lv i t) := by
  refine ⟨h.1, h.2.1, fun q hq => h.2.2 q ?_⟩
  obtain ⟨j, u, h1, h2⟩ := prs_mem _ _ _ hq
  rw [Nat.zero_add] at h2
  rcases lset2_get t lv i j u h1 with ⟨rfl, rfl⟩ | ⟨g1, g1', g2, g3⟩
  · rw [h2]; exact List.mem_cons_self
  · refine List.mem_cons_of_mem _ (List.mem_filter.mpr ⟨?_, ?_⟩)
    · rw [h2]
      have := mem_prs lv 0 j u g2
      simpa using this
    · rw [h2]
      simp only [tv_cat]
      by_cases e : j + 1 = i
      · have : t2 u = false := by
          cases hu : t2 u with
          | false => rfl
          | true => exact absurd ⟨e, hu⟩ g3
        simp [g1, g1', e, this]
      · simp [g1, g1', e]
/-- the locals with which a method begins -/
def lvA : List TV → List (Option TV)
  | [] => []
  | t :: l => bif t2 t then some t :: none :: lvA l else some t :: lvA l
theorem lvA_mem : ∀ (As : List TV) (n i : Nat) (q : Nat × Value), q ∈ prs (lvA As ++ List.replicate n none) i → q ∈ lv_args i (As.map tv)
  | [], n, i, q, h => by
    exfalso
    obtain ⟨j, t, h1, -⟩ := prs_mem _ _ _ h
    simp only [lvA, List.nil_append, List.getElem?_replicate] at h1
    split at h1 <;> cases h1
  | t :: l, n, i, q, h => by
    cases ht : t2 t with
    | true =>
      have hc : (tv t).category = 2 := by rw [tv_cat, ht]; rfl
      simp only [lvA, ht, cond_true, List.cons_append, prs] at h
      simp only [List.map_cons, lv_args, hc, if_true]
      rcases List.mem_cons.mp h with h | h
      · rw [h]; exact List.mem_cons_self
      · exact List.mem_cons_of_mem _ (lvA_mem l n (i + 2) q h)
    | false =>
      have hc : ¬ (tv t).category = 2 := by rw [tv_cat, ht]; decide
      simp only [lvA, ht, cond_false, List.cons_append, prs] at h
      simp only [List.map_cons, lv_args, hc, if_false]
      rcases List.mem_cons.mp h with h | h
      · rw [h]; exact List.mem_cons_self
      · exact List.mem_cons_of_mem _ (lvA_mem l n (i + 1) q h)
def lvI (As : List TV) (nL : Nat) : List (Option TV) := lvA As ++ List.replicate (nL - (lvA As).length) none
theorem lvA_len : ∀ (As : List TV), (lvA As).length = (lg_sl (As.map tv)).length
  | [] => rfl
  | t :: l => by
    have ih := lvA_len l
    cases ht : t2 t with
    | true =>
      have hc : (tv t).category = 2 := by rw [tv_cat, ht]; rfl
      simp only [lvA, ht, cond_true, List.length_cons, ih, List.map_cons, lg_sl, List.flatMap_cons, hc, if_true, List.length_append, List.length_nil]
      omega
    | false =>
      have hc : ¬ (tv t).category = 2 := by rw [tv_cat, ht]; decide
      simp only [lvA, ht, cond_false, List.length_cons, ih, List.map_cons, lg_sl, List.flatMap_cons, hc, if_false, List.length_append, List.length_nil]
      omega
/-! the heap, typed: kinds, reference fields, int fields (floats by their bits), lengths, how many cells and slots are new; an array's place j is field 100 + j -/
abbrev Hp : Type := (Nat → Nat) × (Nat → Nat → Option Nat) × (Nat → Nat → Int32) × (Nat → Nat) × Nat × Nat
def kd (h : Hp) (a : Nat) : Nat := h.1 a
def rf (h : Hp) (k a : Nat) : Option Nat := h.2.1 k a
def it (h : Hp) (k a : Nat) : Int32 := h.2.2.1 k a
def ln (h : Hp) (a : Nat) : Nat := h.2.2.2.1 a
def nc (h : Hp) : Nat := h.2.2.2.2.1
def ns (h : Hp) : Nat := h.2.2.2.2.2
/-- fields: declarer, name, descriptor, final, tag (0 reference, 1 int, 2 float, 3 boolean) -/
def gD (g : Nat) : String × String × String × Bool × Nat := match g with
  | 0 => ("java/util/HashMap$Node", "hash", "I", true, 1)
  | 1 => ("java/util/HashMap$Node", "key", "Ljava/lang/Object;", true, 0)
  | 2 => ("java/util/HashMap$Node", "value", "Ljava/lang/Object;", false, 0)
  | 3 => ("java/util/HashMap$Node", "next", "Ljava/util/HashMap$Node;", false, 0)
  | 4 => ("java/util/LinkedHashMap$Entry", "before", "Ljava/util/LinkedHashMap$Entry;", false, 0)
  | 5 => ("java/util/LinkedHashMap$Entry", "after", "Ljava/util/LinkedHashMap$Entry;", false, 0)
  | 6 => ("java/util/HashMap$TreeNode", "parent", "Ljava/util/HashMap$TreeNode;", false, 0)
  | 7 => ("java/util/HashMap$TreeNode", "left", "Ljava/util/HashMap$TreeNode;", false, 0)
  | 8 => ("java/util/HashMap$TreeNode", "right", "Ljava/util/HashMap$TreeNode;", false, 0)
  | 9 => ("java/util/HashMap$TreeNode", "prev", "Ljava/util/HashMap$TreeNode;", false, 0)
  | 10 => ("java/util/HashMap$TreeNode", "red", "Z", false, 3)
  | 11 => ("java/util/AbstractMap", "keySet", "Ljava/util/Set;", false, 0)
  | 12 => ("java/util/AbstractMap", "values", "Ljava/util/Collection;", false, 0)
  | 13 => ("java/util/HashMap", "table", "[Ljava/util/HashMap$Node;", false, 0)
  | 14 => ("java/util/HashMap", "entrySet", "Ljava/util/Set;", false, 0)
  | 15 => ("java/util/HashMap", "size", "I", false, 1)
  | 16 => ("java/util/HashMap", "modCount", "I", false, 1)
  | 17 => ("java/util/HashMap", "threshold", "I", false, 1)
  | 18 => ("java/util/HashMap", "loadFactor", "F", true, 2)
  | 19 => ("java/util/LinkedHashMap", "head", "Ljava/util/LinkedHashMap$Entry;", false, 0)
  | 20 => ("java/util/LinkedHashMap", "tail", "Ljava/util/LinkedHashMap$Entry;", false, 0)
  | 21 => ("java/util/LinkedHashMap", "accessOrder", "Z", true, 3)
  | 22 => ("java/util/LinkedHashMap", "putMode", "I", false, 1)
  | 23 => ("java/lang/Integer", "value", "I", true, 1)
  | 24 => ("HashHall", "plain", "Ljava/util/HashMap;", true, 0)
  | 25 => ("HashHall", "coming", "Ljava/util/LinkedHashMap;", true, 0)
  | 26 => ("HashHall", "used", "Ljava/util/LinkedHashMap;", true, 0)
  | 27 => ("java/util/HashMap$KeySet", "this$0", "Ljava/util/HashMap;", true, 0)
  | 28 => ("java/util/HashMap$EntrySet", "this$0", "Ljava/util/HashMap;", true, 0)
  | 29 => ("java/util/LinkedHashMap$LinkedEntrySet", "reversed", "Z", true, 3)
  | 30 => ("java/util/LinkedHashMap$LinkedEntrySet", "this$0", "Ljava/util/LinkedHashMap;", true, 0)
  | 31 => ("java/util/HashMap$HashIterator", "next", "Ljava/util/HashMap$Node;", false, 0)
  | 32 => ("java/util/HashMap$HashIterator", "current", "Ljava/util/HashMap$Node;", false, 0)
  | 33 => ("java/util/HashMap$HashIterator", "expectedModCount", "I", false, 1)
  | 34 => ("java/util/HashMap$HashIterator", "index", "I", false, 1)
  | 35 => ("java/util/HashMap$HashIterator", "this$0", "Ljava/util/HashMap;", true, 0)
  | 36 => ("java/util/LinkedHashMap$LinkedHashIterator", "next", "Ljava/util/LinkedHashMap$Entry;", false, 0)
  | 37 => ("java/util/LinkedHashMap$LinkedHashIterator", "current", "Ljava/util/LinkedHashMap$Entry;", false, 0)
  | 38 => ("java/util/LinkedHashMap$LinkedHashIterator", "expectedModCount", "I", false, 1)
  | 39 => ("java/util/LinkedHashMap$LinkedHashIterator", "reversed", "Z", false, 3)
  | 40 => ("java/util/LinkedHashMap$LinkedHashIterator", "this$0", "Ljava/util/LinkedHashMap;", true, 0)
  | 41 => ("HashHallModel", "map", "[LHashHallModel$Pairs;", true, 0)
  | 42 => ("HashHallModel$Pairs", "sorted", "[I", false, 0)
  | 43 => ("HashHallModel$Pairs", "key", "[I", false, 0)
  | 44 => ("HashHallModel$Pairs", "value", "[I", false, 0)
  | 45 => ("HashHallModel$Pairs", "before", "[I", false, 0)
  | 46 => ("HashHallModel$Pairs", "behind", "[I", false, 0)
  | 47 => ("HashHallModel$Pairs", "many", "I", false, 1)
  | 48 => ("HashHallModel$Pairs", "free", "I", false, 1)
  | 49 => ("HashHallModel$Pairs", "made", "I", false, 1)
  | 50 => ("HashHallModel$Pairs", "first", "I", false, 1)
  | _ => ("HashHallModel$Pairs", "last", "I", false, 1)
def tg (g : Nat) : Nat := (gD g).2.2.2.2
/-- kinds of objects: their classes and fields -/
def cN (K : Nat) : String := match K with
  | 1 => "HashHall"
  | 2 => "java/util/HashMap"
  | 3 => "java/util/LinkedHashMap"
  | 4 => "java/lang/Integer"
  | 5 => "java/util/HashMap$Node"
  | 6 => "java/util/LinkedHashMap$Entry"
  | 7 => "java/util/HashMap$TreeNode"
  | 8 => "java/util/HashMap$KeySet"
  | 9 => "java/util/HashMap$EntrySet"
  | 10 => "java/util/LinkedHashMap$LinkedEntrySet"
  | 11 => "java/util/HashMap$KeyIterator"
  | 12 => "java/util/HashMap$EntryIterator"
  | 13 => "java/util/LinkedHashMap$LinkedEntryIterator"
  | 14 => "HashHallModel"
  | 15 => "HashHallModel$Pairs"
  | _ => "java/lang/Integer"
def cG (K : Nat) : List Nat := match K with
  | 1 => [24, 25, 26]
  | 2 => [11, 12, 13, 14, 15, 16, 17, 18]
  | 3 => [11, 12, 13, 14, 15, 16, 17, 18, 19, 20, 21, 22]
  | 4 => [23]
  | 5 => [0, 1, 2, 3]
  | 6 => [0, 1, 2, 3, 4, 5]
  | 7 => [0, 1, 2, 3, 4, 5, 6, 7, 8, 9, 10]
  | 8 => [27]
  | 9 => [28]
  | 10 => [29, 30]
  | 11 => [31, 32, 33, 34, 35]
  | 12 => [31, 32, 33, 34, 35]
  | 13 => [36, 37, 38, 39, 40]
  | 14 => [41]
  | 15 => [42, 43, 44, 45, 46, 47, 48, 49, 50, 51]
  | 60 => [23]
  | _ => []
/-- the slots of a new cell of the kind K, n places if it is an array -/
def szK (K n : Nat) : Nat := if 50 ≤ K then n else (cG K).length
def wR (h : Hp) (k a : Nat) (v : Option Nat) : Hp := (h.1, fun k' a' => if k' = k ∧ a' = a then v else h.2.1 k' a', h.2.2.1, h.2.2.2)
def wI (h : Hp) (k a : Nat) (v : Int32) : Hp := (h.1, h.2.1, fun k' a' => if k' = k ∧ a' = a then v else h.2.2.1 k' a', h.2.2.2)
def nw (h : Hp) (a K n : Nat) : Hp := (fun a' => if a' = a then K else h.1 a', fun k a' => if a' = a then none else h.2.1 k a', fun k a' => if a' = a then 0 else h.2.2.1 k a', fun a' => if a' = a then n else h.2.2.2.1 a', h.2.2.2.2.1 + 1, h.2.2.2.2.2 + szK K n)
theorem kd_wR (h : Hp) (k a : Nat) (v : Option Nat) (b : Nat) : kd (wR h k a v) b = kd h b := rfl
theorem kd_wI (h : Hp) (k a : Nat) (v : Int32) (b : Nat) : kd (wI h k a v) b = kd h b := rfl
theorem ln_wR (h : Hp) (k a : Nat) (v : Option Nat) (b : Nat) : ln (wR h k a v) b = ln h b := rfl
theorem ln_wI (h : Hp) (k a : Nat) (v : Int32) (b : Nat) : ln (wI h k a v) b = ln h b := rfl
theorem nc_wR (h : Hp) (k a : Nat) (v : Option Nat) : nc (wR h k a v) = nc h := rfl
theorem nc_wI (h : Hp) (k a : Nat) (v : Int32) : nc (wI h k a v) = nc h := rfl
theorem ns_wR (h : Hp) (k a : Nat) (v : Option Nat) : ns (wR h k a v) = ns h := rfl
theorem ns_wI (h : Hp) (k a : Nat) (v : Int32) : ns (wI h k a v) = ns h := rfl
theorem nc_nw (h : Hp) (a K n : Nat) : nc (nw h a K n) = nc h + 1 := rfl
theorem ns_nw (h : Hp) (a K n : Nat) : ns (nw h a K n) = ns h + szK K n := rfl
theorem it_wR (h : Hp) (k a : Nat) (v : Option Nat) (j b : Nat) : it (wR h k a v) j b = it h j b := rfl
theorem rf_wI (h : Hp) (k a : Nat) (v : Int32) (j b : Nat) : rf (wI h k a v) j b = rf h j b := rfl
theorem rf_wR (h : Hp) (k a : Nat) (v : Option Nat) (j b : Nat) : rf (wR h k a v) j b = if j = k ∧ b = a then v else rf h j b := rfl
theorem it_wI (h : Hp) (k a : Nat) (v : Int32) (j b : Nat) : it (wI h k a v) j b = if j = k ∧ b = a then v else it h j b := rfl
theorem kd_nw (h : Hp) (a K n b : Nat) : kd (nw h a K n) b = if b = a then K else kd h b := rfl
theorem rf_nw (h : Hp) (a K n k b : Nat) : rf (nw h a K n) k b = if b = a then none else rf h k b := rfl
theorem it_nw (h : Hp) (a K n k b : Nat) : it (nw h a K n) k b = if b = a then 0 else it h k b := rfl
theorem ln_nw (h : Hp) (a K n b : Nat) : ln (nw h a K n) b = if b = a then n else ln h b := rfl
/-- the kinds that a reference field may hold -/
def fT (g : Nat) : List Nat := match g with
  | 1 => [4, 60]
  | 2 => [4, 60]
  | 3 => [5, 6, 7]
  | 4 => [6, 7]
  | 5 => [6, 7]
  | 6 => [7]
  | 7 => [7]
  | 8 => [7]
  | 9 => [7]
  | 11 => [8]
  | 13 => [51]
  | 14 => [9, 10]
  | 19 => [6, 7]
  | 20 => [6, 7]
  | 24 => [2]
  | 25 => [3]
  | 26 => [3]
  | 27 => [2, 3]
  | 28 => [2, 3]
  | 30 => [3]
  | 31 => [5, 6, 7]
  | 32 => [5, 6, 7]
  | 35 => [2, 3]
  | 36 => [6, 7]
  | 37 => [6, 7]
  | 40 => [3]
  | 41 => [52]
  | 42 => [50]
  | 43 => [50]
  | 44 => [50]
  | 45 => [50]
  | 46 => [50]
  | _ => []
/-- the kinds that a place of an array of references may hold -/
def eT (K : Nat) : List Nat := match K with
  | 51 => [5, 6, 7]
  | 52 => [15]
  | _ => []
def TyOK (h : Hp) (t : TV) : Prop := match t with
  | .inr (.inl (L, some a)) => kd h a ∈ L ∧ kd h a ≠ 0
  | _ => True
/-- typed: what fields and places hold -/
def WT (h : Hp) : Prop := (∀ a g, kd h a ≠ 0 → g ∈ cG (kd h a) → TyOK h (vR (fT g) (rf h g a))) ∧ ∀ a j, kd h a = 51 ∨ kd h a = 52 → TyOK h (vR (eT (kd h a)) (rf h (100 + j) a))
/-- kinds and lengths stay, counters grow -/
def Ex (h0 h : Hp) : Prop := (∀ a, kd h0 a ≠ 0 → kd h a = kd h0 a ∧ ln h a = ln h0 a) ∧ nc h0 ≤ nc h ∧ ns h0 ≤ ns h
theorem Ex.refl (h : Hp) : Ex h h := ⟨fun _ _ => ⟨rfl, rfl⟩, Nat.le_refl _, Nat.le_refl _⟩
theorem Ex.trans {h0 h1 h2 : Hp} (a : Ex h0 h1) (b : Ex h1 h2) : Ex h0 h2 := by
  refine ⟨fun q hq => ?_, Nat.le_trans a.2.1 b.2.1, Nat.le_trans a.2.2 b.2.2⟩
  obtain ⟨e1, e2⟩ := a.1 q hq
  obtain ⟨e3, e4⟩ := b.1 q (by rw [e1]; exact hq)
  exact ⟨e3.trans e1, e4.trans e2⟩
theorem Ex.wR {h0 h : Hp} (e : Ex h0 h) (k a : Nat) (v : Option Nat) : Ex h0 (wR h k a v) := e
theorem Ex.wI {h0 h : Hp} (e : Ex h0 h) (k a : Nat) (v : Int32) : Ex h0 (wI h k a v) := e
theorem Ex.nw {h0 h : Hp} (e : Ex h0 h) {a : Nat} (K n : Nat) (ha : kd h a = 0) : Ex h0 (nw h a K n) := by
  refine ⟨fun q hq => ?_, Nat.le_succ_of_le e.2.1, Nat.le_trans e.2.2 (Nat.le_add_right _ _)⟩
  obtain ⟨e1, e2⟩ := e.1 q hq
  have hne : q ≠ a := fun z => by rw [z, ha] at e1; rw [z] at hq; exact hq e1.symm
  rw [kd_nw, if_neg hne, ln_nw, if_neg hne]
  exact ⟨e1, e2⟩
theorem TyOK.ext {h h' : Hp} {t : TV} (e : Ex h h') (k : TyOK h t) : TyOK h' t := by
  rcases t with x | ⟨L, _ | a⟩ | x | x | x
  · exact trivial
  · exact trivial
  · obtain ⟨k1, k2⟩ := k
    obtain ⟨e1, -⟩ := e.1 a k2
    exact ⟨by rw [e1]; exact k1, by rw [e1]; exact k2⟩
  · exact trivial
  · exact trivial
  · exact trivial
theorem TyOK.up {h : Hp} {L L' : List Nat} {o : Option Nat} (hL : (L.all fun K => L'.contains K) = true) (k : TyOK h (vR L o)) : TyOK h (vR L' o) := by
  cases o with
  | none => exact trivial
  | some a =>
    obtain ⟨k1, k2⟩ := k
    exact ⟨by have := List.all_eq_true.mp hL _ k1; simpa using this, k2⟩
def TS (h : Hp) (st : List TV) : Prop := ∀ t ∈ st, TyOK h t
def TL (h : Hp) (lv : List (Option TV)) : Prop := ∀ t, some t ∈ lv → TyOK h t
theorem TS.t {h : Hp} {t : TV} {st : List TV} (k : TS h (t :: st)) : TS h st := fun u hu => k u (List.mem_cons_of_mem _ hu)
theorem TS.h {h : Hp} {t : TV} {st : List TV} (k : TS h (t :: st)) : TyOK h t := k t List.mem_cons_self
theorem TS.c {h : Hp} {t : TV} {st : List TV} (a : TyOK h t) (k : TS h st) : TS h (t :: st) := fun u hu => by
  rcases List.mem_cons.mp hu with e | e
  · rw [e]; exact a
  · exact k u e
theorem TS.nil (h : Hp) : TS h [] := fun u hu => by cases hu
theorem TL.get {h : Hp} {lv : List (Option TV)} {k : Nat} {t : TV} (a : TL h lv) (hk : lv[k]? = some (some t)) : TyOK h t := a t (List.mem_of_getElem? hk)
theorem TS.ext {h h' : Hp} {st : List TV} (e : Ex h h') (k : TS h st) : TS h' st := fun t ht => (k t ht).ext e
theorem TL.ext {h h' : Hp} {lv : List (Option TV)} (e : Ex h h') (k : TL h lv) : TL h' lv := fun t ht => (k t ht).ext e
theorem TL.st1 {h : Hp} {lv : List (Option TV)} {t : TV} {i : Nat} (a : TL h lv) (b : TyOK h t) : TL h (lset lv i t) := fun u hu => by
  obtain ⟨k, hk⟩ := List.getElem?_of_mem hu
  rcases lset_get t lv i k u hk with ⟨-, e⟩ | ⟨-, e, -⟩
  · rw [e]; exact b
  · exact a.get e
theorem TL.st2 {h : Hp} {lv : List (Option TV)} {t : TV} {i : Nat} (a : TL h lv) (b : TyOK h t) : TL h (lset2 lv i t) := fun u hu => by
  obtain ⟨k, hk⟩ := List.getElem?_of_mem hu
  rcases lset2_get t lv i k u hk with ⟨-, e⟩ | ⟨-, -, e, -⟩
  · rw [e]; exact b
  · exact a.get e
/-- locals and stack seen with other types: wider, or not at all -/
def reT (t : TV) (L : Option (List Nat)) : TV := match t, L with
  | .inr (.inl (_, o)), some L => .inr (.inl (L, o))
  | t, _ => t
def reTok (t : TV) (L : Option (List Nat)) : Bool := match t, L with
  | .inr (.inl (L, _)), some L' => L.all fun K => L'.contains K
  | _, _ => true
theorem reT_tv (t : TV) (L : Option (List Nat)) : tv (reT t L) = tv t ∧ t2 (reT t L) = t2 t := by
  rcases t with x | ⟨L0, o⟩ | x | x | x <;> cases L <;> exact ⟨rfl, rfl⟩
theorem reT_ok {h : Hp} {t : TV} {L : Option (List Nat)} (a : reTok t L = true) (b : TyOK h t) : TyOK h (reT t L) := by
  rcases t with x | ⟨L0, o⟩ | x | x | x
  · cases L <;> exact trivial
  · cases L with
    | none => exact b
    | some L => exact b.up a
  · cases L <;> exact trivial
  · cases L <;> exact trivial
  · cases L <;> exact trivial
def reS : List TV → List (Option (List Nat)) → List TV
  | t :: st, L :: Ls => reT t L :: reS st Ls
  | st, _ => st
def reSok : List TV → List (Option (List Nat)) → Bool
  | t :: st, L :: Ls => reTok t L && reSok st Ls
  | _, _ => true
theorem reS_tv : ∀ (st : List TV) (Ls : List (Option (List Nat))), (reS st Ls).map tv = st.map tv
  | [], [] => rfl
  | [], _ :: _ => rfl
  | _ :: _, [] => rfl
  | t :: st, L :: Ls => by simp only [reS, List.map_cons, (reT_tv t L).1, reS_tv st Ls]
theorem reS_ok {h : Hp} : ∀ (st : List TV) (Ls : List (Option (List Nat))), reSok st Ls = true → TS h st → TS h (reS st Ls)
  | [], [], _, b => b
  | [], _ :: _, _, b => b
  | _ :: _, [], _, b => b
  | t :: st, L :: Ls, a, b => by
    simp only [reSok, Bool.and_eq_true] at a
    exact TS.c (reT_ok a.1 b.h) (reS_ok st Ls a.2 b.t)
/-- a local: 'none' forgets it, 'some L' sees it so -/
def reL : List (Option TV) → List (Option (Option (List Nat))) → List (Option TV)
  | x :: lv, L :: Ls => (match x, L with | some t, some L => some (reT t L) | _, _ => none) :: reL lv Ls
  | _, _ => []
def reLok : List (Option TV) → List (Option (Option (List Nat))) → Bool
  | x :: lv, L :: Ls => (match x, L with | some t, some L => reTok t L | _, _ => true) && reLok lv Ls
  | _, _ => true
theorem reL_get : ∀ (lv : List (Option TV)) (Ls : List (Option (Option (List Nat)))) (k : Nat) (u : TV), (reL lv Ls)[k]? = some (some u) → ∃ t L, lv[k]? = some (some t) ∧ Ls[k]? = some (some L) ∧ u = reT t L
  | [], [], k, u, h => by simp [reL] at h
  | [], _ :: _, k, u, h => by simp [reL] at h
  | _ :: _, [], k, u, h => by simp [reL] at h
  | x :: lv, L :: Ls, 0, u, h => by
    cases x with
    | none => simp [reL] at h
    | some t =>
      cases L with
      | none => simp [reL] at h
      | some L =>
        simp only [reL, List.getElem?_cons_zero, Option.some.injEq] at h
        exact ⟨t, L, rfl, rfl, h.symm⟩
  | x :: lv, L :: Ls, k + 1, u, h => by
    simp only [reL, List.getElem?_cons_succ] at h
    obtain ⟨t, L', h1, h2, h3⟩ := reL_get lv Ls k u h
    exact ⟨t, L', by simpa using h1, by simpa using h2, h3⟩
theorem reLok_get : ∀ (lv : List (Option TV)) (Ls : List (Option (Option (List Nat)))) (k : Nat) (t : TV) (L : Option (List Nat)), reLok lv Ls = true → lv[k]? = some (some t) → Ls[k]? = some (some L) → reTok t L = true
  | [], _, k, t, L, _, h, _ => by simp at h
  | _ :: _, [], k, t, L, _, _, h => by simp at h
  | x :: lv, L0 :: Ls, 0, t, L, a, h, h' => by
    simp only [List.getElem?_cons_zero, Option.some.injEq] at h h'
    subst h; subst h'
    simp only [reLok, Bool.and_eq_true] at a
    exact a.1
  | x :: lv, L0 :: Ls, k + 1, t, L, a, h, h' => by
    simp only [reLok, Bool.and_eq_true] at a
    exact reLok_get lv Ls k t L a.2 (by simpa using h) (by simpa using h')
theorem reL_ok {h : Hp} {lv : List (Option TV)} {Ls : List (Option (Option (List Nat)))} (a : reLok lv Ls = true) (b : TL h lv) : TL h (reL lv Ls) := fun u hu => by
  obtain ⟨k, hk⟩ := List.getElem?_of_mem hu
  obtain ⟨t, L, h1, h2, h3⟩ := reL_get lv Ls k u hk
  rw [h3]
  exact reT_ok (reLok_get lv Ls k t L a h1 h2) (b.get h1)
theorem reL_lv {ls : Array Slot} {nL : Nat} {lv : List (Option TV)} {Ls : List (Option (Option (List Nat)))} (b : LVok ls nL lv) : LVok ls nL (reL lv Ls) := by
  refine ⟨b.1, b.2.1, fun q hq => ?_⟩
  obtain ⟨j, u, h1, h2⟩ := prs_mem _ _ _ hq
  obtain ⟨t, L, g1, g2, g3⟩ := reL_get lv Ls j u h1
  have := b.get g1
  rw [h2, Nat.zero_add, g3, (reT_tv t L).1]
  exact this
/-- a kind of objects -/
abbrev kOb (K : Nat) : Bool := (decide (1 ≤ K) && decide (K ≤ 15)) || decide (K = 60)
/-- new ones, that may be written -/
abbrev kNw (K : Nat) : Bool := decide (1 ≤ K) && decide (K ≤ 15)
def cT (K : Nat) : u_T := fun k => ((gD ((cG K).getD k 0)).1, (gD ((cG K).getD k 0)).2.1, (gD ((cG K).getD k 0)).2.2.1, (gD ((cG K).getD k 0)).2.2.2.1)
def aT (K : Nat) : FieldType := match K with
  | 50 => .int
  | 51 => .object "java/util/HashMap$Node"
  | _ => .object "HashHallModel$Pairs"
def gTy (g : Nat) : FieldType := (parseFieldDescriptor (gD g).2.2.1).getD .int
