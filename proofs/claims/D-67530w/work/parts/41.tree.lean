/-! TREES: by the field fl the left child, by fr the right one, by 6 the parent; sub a: the cells under a, in order -/
set_option maxRecDepth 100000
def subO (sub : Nat → List Nat) (o : Option Nat) : List Nat := match o with
  | none => []
  | some b => sub b
theorem subO_congr {sub sub' : Nat → List Nat} {o : Option Nat} (h : ∀ b, o = some b → sub' b = sub b) : subO sub' o = subO sub o := by
  cases o with
  | none => rfl
  | some b => exact h b rfl
def Trg (fl fr : Nat) (h : Hp) (r : Nat) (S : List Nat) (sub : Nat → List Nat) : Prop :=
  sub r = S ∧ r ∈ S ∧ S.Nodup ∧ rf h 6 r = none ∧ ∀ a ∈ S, sub a = subO sub (rf h fl a) ++ a :: subO sub (rf h fr a) ∧ (∀ b, rf h fl a = some b → b ∈ S ∧ rf h 6 b = some a) ∧ (∀ b, rf h fr a = some b → b ∈ S ∧ rf h 6 b = some a)
section TRG
variable {fl fr : Nat} {h : Hp} {r : Nat} {S : List Nat} {sub : Nat → List Nat}
/-- b is a child of a -/
def chd (fl fr : Nat) (h : Hp) (a b : Nat) : Prop := rf h fl a = some b ∨ rf h fr a = some b
theorem Trg.self (k : Trg fl fr h r S sub) {a : Nat} (ha : a ∈ S) : a ∈ sub a := by
  rw [(k.2.2.2.2 a ha).1]
  exact List.mem_append_right _ List.mem_cons_self
theorem Trg.chS (k : Trg fl fr h r S sub) {a b : Nat} (ha : a ∈ S) (hb : chd fl fr h a b) : b ∈ S ∧ rf h 6 b = some a := by
  rcases hb with hb | hb
  · exact (k.2.2.2.2 a ha).2.1 b hb
  · exact (k.2.2.2.2 a ha).2.2 b hb
theorem Trg.ch_sl (k : Trg fl fr h r S sub) {a b : Nat} (ha : a ∈ S) (hb : chd fl fr h a b) : (sub b).Sublist (sub a) ∧ (sub b).length < (sub a).length := by
  rw [(k.2.2.2.2 a ha).1]
  rcases hb with hb | hb
  · rw [hb]
    exact ⟨List.sublist_append_left _ _, by simp [subO]⟩
  · rw [hb]
    exact ⟨(List.sublist_cons_self _ _).trans (List.sublist_append_right _ _), by simp [subO]; omega⟩
theorem Trg.mem_sub (k : Trg fl fr h r S sub) {x a : Nat} (hx : x ∈ S) (ha : a ∈ sub x) : a = x ∨ ∃ b, chd fl fr h x b ∧ a ∈ sub b := by
  rw [(k.2.2.2.2 x hx).1] at ha
  rcases List.mem_append.mp ha with ha | ha
  · cases hl : rf h fl x with
    | none => rw [hl] at ha; cases ha
    | some b => rw [hl] at ha; exact Or.inr ⟨b, Or.inl hl, ha⟩
  · rcases List.mem_cons.mp ha with ha | ha
    · exact Or.inl ha
    · cases hl : rf h fr x with
      | none => rw [hl] at ha; cases ha
      | some b => rw [hl] at ha; exact Or.inr ⟨b, Or.inr hl, ha⟩
theorem Trg.desc (k : Trg fl fr h r S sub) : ∀ (n x : Nat), x ∈ S → (sub x).length ≤ n → ∀ a, a ∈ sub x → a ∈ S ∧ (sub a).Sublist (sub x) ∧ (a = x ∨ ∃ p ∈ S, chd fl fr h p a)
  | 0, x, hx, hl, a, ha => by
    have := List.length_pos_of_mem ha
    omega
  | n + 1, x, hx, hl, a, ha => by
    rcases k.mem_sub hx ha with e | ⟨b, hb, hab⟩
    · subst e; exact ⟨hx, List.Sublist.refl _, Or.inl rfl⟩
    · obtain ⟨hs, hlt⟩ := k.ch_sl hx hb
      obtain ⟨g1, g2, g3⟩ := k.desc n b (k.chS hx hb).1 (by omega) a hab
      refine ⟨g1, g2.trans hs, Or.inr ?_⟩
      rcases g3 with e | g3
      · subst e; exact ⟨x, hx, hb⟩
      · exact g3
theorem Trg.sl (k : Trg fl fr h r S sub) {a : Nat} (ha : a ∈ S) : (sub a).Sublist S := by
  have := (k.desc (sub r).length r k.2.1 (Nat.le_refl _) a (by rw [k.1]; exact ha)).2.1
  rwa [k.1] at this
theorem Trg.nd (k : Trg fl fr h r S sub) {a : Nat} (ha : a ∈ S) : (sub a).Nodup := (k.sl ha).nodup k.2.2.1
theorem Trg.up (k : Trg fl fr h r S sub) {a : Nat} (ha : a ∈ S) (hr : a ≠ r) : ∃ p ∈ S, rf h 6 a = some p ∧ chd fl fr h p a := by
  rcases (k.desc (sub r).length r k.2.1 (Nat.le_refl _) a (by rw [k.1]; exact ha)).2.2 with e | ⟨p, hp, hc⟩
  · exact absurd e hr
  · exact ⟨p, hp, (k.chS hp hc).2, hc⟩
theorem Trg.par (k : Trg fl fr h r S sub) {a q : Nat} (ha : a ∈ S) (hq : rf h 6 a = some q) : q ∈ S ∧ chd fl fr h q a := by
  by_cases e : a = r
  · rw [e, k.2.2.2.1] at hq; cases hq
  · obtain ⟨p, h1, h2, h3⟩ := k.up ha e
    cases hq.symm.trans h2
    exact ⟨h1, h3⟩
theorem Trg.ne_ch (k : Trg fl fr h r S sub) {a b : Nat} (ha : a ∈ S) (hb : chd fl fr h a b) : b ≠ a := fun e => by
  have := (k.ch_sl ha hb).2
  rw [e] at this
  omega
theorem Trg.lr (k : Trg fl fr h r S sub) {a b c : Nat} (ha : a ∈ S) (hb : rf h fl a = some b) (hc : rf h fr a = some c) : b ≠ c := by
  intro e
  subst e
  have h1 := k.nd ha
  rw [(k.2.2.2.2 a ha).1, hb, hc] at h1
  have h2 := k.self (k.chS ha (Or.inl hb)).1
  have := (List.nodup_append.mp h1).2.2 b h2 b (List.mem_cons_of_mem _ h2)
  exact this rfl
theorem Trg.root_up (k : Trg fl fr h r S sub) {a : Nat} (ha : a ∈ S) (h6 : rf h 6 a = none) : a = r := by
  by_cases e : a = r
  · exact e
  · obtain ⟨p, -, h2, -⟩ := k.up ha e
    rw [h6] at h2; cases h2
/-- the tree seen in a mirror -/
theorem Trg.mirror (k : Trg fl fr h r S sub) : Trg fr fl h r S.reverse (fun a => (sub a).reverse) := by
  obtain ⟨k1, k2, k3, k4, k5⟩ := k
  refine ⟨by show (sub r).reverse = _; rw [k1], List.mem_reverse.mpr k2, by
    unfold List.Nodup at k3 ⊢
    rw [List.pairwise_reverse]
    exact k3.imp (fun h => Ne.symm h), k4, fun a ha => ?_⟩
  obtain ⟨c1, c2, c3⟩ := k5 a (List.mem_reverse.mp ha)
  have hs : ∀ o, subO (fun a => (sub a).reverse) o = (subO sub o).reverse := fun o => by cases o <;> rfl
  refine ⟨?_, fun b hb => ?_, fun b hb => ?_⟩
  · show (sub a).reverse = _
    rw [c1, hs, hs]
    simp
  · obtain ⟨d1, d2⟩ := c3 b hb
    exact ⟨List.mem_reverse.mpr d1, d2⟩
  · obtain ⟨d1, d2⟩ := c2 b hb
    exact ⟨List.mem_reverse.mpr d1, d2⟩
/-- reading the same links, the same tree -/
theorem Trg.same {h' : Hp} (k : Trg fl fr h r S sub) (e : ∀ a ∈ S, rf h' 6 a = rf h 6 a ∧ rf h' fl a = rf h fl a ∧ rf h' fr a = rf h fr a) : Trg fl fr h' r S sub := by
  obtain ⟨k1, k2, k3, k4, k5⟩ := k
  refine ⟨k1, k2, k3, by rw [(e r k2).1]; exact k4, fun a ha => ?_⟩
  obtain ⟨c1, c2, c3⟩ := k5 a ha
  obtain ⟨-, e2, e3⟩ := e a ha
  rw [e2, e3]
  exact ⟨c1, fun b hb => ⟨(c2 b hb).1, by rw [(e b (c2 b hb).1).1]; exact (c2 b hb).2⟩, fun b hb => ⟨(c3 b hb).1, by rw [(e b (c3 b hb).1).1]; exact (c3 b hb).2⟩⟩
/-- the heap behind a rotation at a with the child x by fr -/
def rotH (fl fr : Nat) (h : Hp) (a x : Nat) : Hp :=
  let h1 := wR h fr a (rf h fl x)
  let h2 := match rf h fl x with | some c => wR h1 6 c (some a) | none => h1
  let h3 := wR h2 6 x (rf h2 6 a)
  let h4 := match rf h2 6 a with | none => wI h3 10 x 0 | some q => if rf h3 fl q = some a then wR h3 fl q (some x) else wR h3 fr q (some x)
  wR (wR h4 fl x (some a)) 6 a (some x)
theorem rotH_kd (fl fr : Nat) (h : Hp) (a x b : Nat) : kd (rotH fl fr h a x) b = kd h b := by
  unfold rotH
  simp only []
  split <;> split <;> (try split) <;> rfl
theorem rotH_facts (hf : fl ≠ fr ∧ fl ≠ 6 ∧ fr ≠ 6) (k : Trg fl fr h r S sub) {a x : Nat} (ha : a ∈ S) (hx : rf h fr a = some x) :
    (∀ y, rf (rotH fl fr h a x) 6 y = if y = a then some x else if y = x then rf h 6 a else if rf h fl x = some y then some a else rf h 6 y) ∧
    (∀ y, rf (rotH fl fr h a x) fl y = if y = x then some a else if rf h 6 a = some y ∧ rf h fl y = some a then some x else rf h fl y) ∧
    (∀ y, rf (rotH fl fr h a x) fr y = if y = a then rf h fl x else if rf h 6 a = some y ∧ ¬ rf h fl y = some a then some x else rf h fr y) ∧
    (∀ f y, f ≠ 6 → f ≠ fl → f ≠ fr → rf (rotH fl fr h a x) f y = rf h f y) ∧
    (∀ f y, (f = 10 → y = x → False) → it (rotH fl fr h a x) f y = it h f y) ∧ (rf h 6 a ≠ none → ∀ f y, it (rotH fl fr h a x) f y = it h f y) := by
  obtain ⟨f1, f2, f3⟩ := hf
  have hxa : x ≠ a := k.ne_ch ha (Or.inr hx)
  obtain ⟨hxS, -⟩ := k.chS ha (Or.inr hx)
  have hc : ∀ c, rf h fl x = some c → c ≠ a ∧ c ≠ x := fun c hc => by
    refine ⟨fun e => ?_, k.ne_ch hxS (Or.inl hc)⟩
    have l1 := (k.ch_sl hxS (Or.inl hc)).2
    have l2 := (k.ch_sl ha (Or.inr hx)).2
    rw [e] at l1
    omega
  have hq : ∀ q, rf h 6 a = some q → q ≠ a ∧ q ≠ x := fun q hq => by
    obtain ⟨hqS, hqc⟩ := k.par ha hq
    have l1 := (k.ch_sl hqS hqc).2
    have l2 := (k.ch_sl ha (Or.inr hx)).2
    exact ⟨fun e => by rw [e] at l1; omega, fun e => by rw [e] at l1; omega⟩
  have e6 : ∀ c, rf h fl x = some c → rf (wR (wR h fr a (some c)) 6 c (some a)) 6 a = rf h 6 a := fun c hc' => by
    have := (hc c hc').1
    rw [rf_wR, if_neg (fun w => this w.2.symm), rf_wR, if_neg (fun w => f3 w.1.symm)]
  have e6' : rf (wR h fr a none) 6 a = rf h 6 a := by rw [rf_wR, if_neg (fun w => f3 w.1.symm)]
  unfold rotH
  cases hcx : rf h fl x with
  | none =>
    simp only [hcx, e6']
    cases hqa : rf h 6 a with
    | none =>
      simp only [hqa]
      refine ⟨fun y => ?_, fun y => ?_, fun y => ?_, fun f y g1 g2 g3 => ?_, fun f y g => ?_, fun g => absurd rfl g⟩
      · simp only [rf_wR, rf_wI]
        by_cases y1 : y = a
        · simp [y1]
        · by_cases y2 : y = x
          · simp [y2, hxa, f2.symm]
          · simp [y1, y2, f2.symm, f3.symm]
      · simp only [rf_wR, rf_wI]
        by_cases y2 : y = x
        · simp [y2, f2]
        · simp [y2, f2, f1]
      · simp only [rf_wR, rf_wI]
        by_cases y1 : y = a
        · simp [y1, f3, f1.symm]
        · simp [y1, f3, f1.symm]
      · simp only [rf_wR, rf_wI]
        simp [g1, g2, g3]
      · simp only [it_wR, it_wI]
        rw [if_neg (fun w => g w.1 w.2)]
    | some q =>
      obtain ⟨q1, q2⟩ := hq q hqa
      have eq : rf (wR (wR h fr a none) 6 x (some q)) fl q = rf h fl q := by
        rw [rf_wR, if_neg (fun w => f2 w.1), rf_wR, if_neg (fun w => f1 w.1)]
      simp only [hqa, eq]
      by_cases hfq : rf h fl q = some a
      · simp only [hfq, if_true]
        refine ⟨fun y => ?_, fun y => ?_, fun y => ?_, fun f y g1 g2 g3 => ?_, fun f y g => rfl, fun _ f y => rfl⟩
        · simp only [rf_wR]
          by_cases y1 : y = a
          · simp [y1]
          · by_cases y2 : y = x
            · simp [y2, hxa, f2.symm]
            · simp [y1, y2, f2.symm, f3.symm]
        · simp only [rf_wR]
          by_cases y2 : y = x
          · simp [y2, f2]
          · by_cases y3 : y = q
            · subst y3; simp [y2, f2, hfq]
            · have : q ≠ y := fun e => y3 e.symm
              simp [y2, y3, f2, f1, this]
        · simp only [rf_wR]
          by_cases y1 : y = a
          · simp [y1, f3, f1.symm]
          · by_cases y3 : y = q
            · subst y3; simp [y1, f3, f1.symm, hfq]
            · have : q ≠ y := fun e => y3 e.symm
              simp [y1, f3, f1.symm, this]
        · simp only [rf_wR]
          simp [g1, g2, g3]
      · simp only [hfq, if_false]
        refine ⟨fun y => ?_, fun y => ?_, fun y => ?_, fun f y g1 g2 g3 => ?_, fun f y g => rfl, fun _ f y => rfl⟩
        · simp only [rf_wR]
          by_cases y1 : y = a
          · simp [y1]
          · by_cases y2 : y = x
            · simp [y2, hxa, f2.symm, f3.symm]
            · simp [y1, y2, f2.symm, f3.symm]
        · simp only [rf_wR]
          by_cases y2 : y = x
          · simp [y2, f2]
          · by_cases y3 : y = q
            · subst y3; simp [y2, f2, hfq, f1]
            · have : q ≠ y := fun e => y3 e.symm
              simp [y2, f2, f1, this]
        · simp only [rf_wR]
          by_cases y1 : y = a
          · have : ¬ a = q := fun e => q1 e.symm
            simp [y1, f3, f1.symm, this]
          · by_cases y3 : y = q
            · subst y3; simp [y1, f3, f1.symm, hfq]
            · have : q ≠ y := fun e => y3 e.symm
              simp [y1, y3, f3, f1.symm, this]
        · simp only [rf_wR]
          simp [g1, g2, g3]
  | some c =>
    obtain ⟨c1, c2⟩ := hc c hcx
    simp only [hcx, e6 c hcx]
    cases hqa : rf h 6 a with
    | none =>
      simp only [hqa]
      refine ⟨fun y => ?_, fun y => ?_, fun y => ?_, fun f y g1 g2 g3 => ?_, fun f y g => ?_, fun g => absurd rfl g⟩
      · simp only [rf_wR, rf_wI]
        by_cases y1 : y = a
        · simp [y1]
        · by_cases y2 : y = x
          · simp [y2, hxa, f2.symm]
          · by_cases y4 : y = c
            · subst y4; simp [y1, y2, f2.symm, f3.symm]
            · have : c ≠ y := fun e => y4 e.symm
              simp [y1, y2, y4, f2.symm, f3.symm, this]
      · simp only [rf_wR, rf_wI]
        by_cases y2 : y = x
        · simp [y2, f2]
        · simp [y2, f2, f1]
      · simp only [rf_wR, rf_wI]
        by_cases y1 : y = a
        · simp [y1, f3, f1.symm]
        · simp [y1, f3, f1.symm]
      · simp only [rf_wR, rf_wI]
        simp [g1, g2, g3]
      · simp only [it_wR, it_wI]
        rw [if_neg (fun w => g w.1 w.2)]
    | some q =>
      obtain ⟨q1, q2⟩ := hq q hqa
      have eq : rf (wR (wR (wR h fr a (some c)) 6 c (some a)) 6 x (some q)) fl q = rf h fl q := by
        rw [rf_wR, if_neg (fun w => f2 w.1), rf_wR, if_neg (fun w => f2 w.1), rf_wR, if_neg (fun w => f1 w.1)]
      simp only [hqa, eq]
      by_cases hfq : rf h fl q = some a
      · simp only [hfq, if_true]
        refine ⟨fun y => ?_, fun y => ?_, fun y => ?_, fun f y g1 g2 g3 => ?_, fun f y g => rfl, fun _ f y => rfl⟩
        · simp only [rf_wR]
          by_cases y1 : y = a
          · simp [y1]
          · by_cases y2 : y = x
            · simp [y2, hxa, f2.symm]
            · by_cases y4 : y = c
              · subst y4; simp [y1, y2, f2.symm, f3.symm]
              · have : c ≠ y := fun e => y4 e.symm
                simp [y1, y2, y4, f2.symm, f3.symm, this]
        · simp only [rf_wR]
          by_cases y2 : y = x
          · simp [y2, f2]
          · by_cases y3 : y = q
            · subst y3; simp [y2, f2, hfq]
            · have : q ≠ y := fun e => y3 e.symm
              simp [y2, y3, f2, f1, this]
        · simp only [rf_wR]
          by_cases y1 : y = a
          · simp [y1, f3, f1.symm]
          · by_cases y3 : y = q
            · subst y3; simp [y1, f3, f1.symm, hfq]
            · have : q ≠ y := fun e => y3 e.symm
              simp [y1, f3, f1.symm, this]
        · simp only [rf_wR]
          simp [g1, g2, g3]
      · simp only [hfq, if_false]
        refine ⟨fun y => ?_, fun y => ?_, fun y => ?_, fun f y g1 g2 g3 => ?_, fun f y g => rfl, fun _ f y => rfl⟩
        · simp only [rf_wR]
          by_cases y1 : y = a
          · simp [y1]
          · by_cases y2 : y = x
            · simp [y2, hxa, f2.symm, f3.symm]
            · by_cases y4 : y = c
              · subst y4; simp [y1, y2, f2.symm, f3.symm]
              · have : c ≠ y := fun e => y4 e.symm
                simp [y1, y2, y4, f2.symm, f3.symm, this]
        · simp only [rf_wR]
          by_cases y2 : y = x
          · simp [y2, f2]
          · by_cases y3 : y = q
            · subst y3; simp [y2, f2, hfq, f1]
            · have : q ≠ y := fun e => y3 e.symm
              simp [y2, f2, f1, this]
        · simp only [rf_wR]
          by_cases y1 : y = a
          · have : ¬ a = q := fun e => q1 e.symm
            simp [y1, f3, f1.symm, this]
          · by_cases y3 : y = q
            · subst y3; simp [y1, f3, f1.symm, hfq]
            · have : q ≠ y := fun e => y3 e.symm
              simp [y1, y3, f3, f1.symm, this]
        · simp only [rf_wR]
          simp [g1, g2, g3]
/-- the lists under the cells behind a rotation -/
def rotS (fl fr : Nat) (h : Hp) (sub : Nat → List Nat) (a x : Nat) : Nat → List Nat := fun y => if y = x then sub a else if y = a then subO sub (rf h fl a) ++ a :: subO sub (rf h fl x) else sub y
theorem rotH_Trg (hf : fl ≠ fr ∧ fl ≠ 6 ∧ fr ≠ 6) (k : Trg fl fr h r S sub) {a x : Nat} (ha : a ∈ S) (hx : rf h fr a = some x) :
    Trg fl fr (rotH fl fr h a x) (if a = r then x else r) S (rotS fl fr h sub a x) := by
  obtain ⟨F6, Fl, Fr, -, -, -⟩ := rotH_facts hf k ha hx
  have hxa : x ≠ a := k.ne_ch ha (Or.inr hx)
  obtain ⟨hxS, hx6⟩ := k.chS ha (Or.inr hx)
  have hxr : x ≠ r := fun e => by rw [e, k.2.2.2.1] at hx6; cases hx6
  have lx := (k.ch_sl ha (Or.inr hx)).2
  have hc : ∀ c, rf h fl x = some c → c ≠ a ∧ c ≠ x ∧ c ∈ S ∧ rf h 6 c = some x := fun c hc => by
    have l1 := (k.ch_sl hxS (Or.inl hc)).2
    obtain ⟨g1, g2⟩ := k.chS hxS (Or.inl hc)
    exact ⟨fun e => by rw [e] at l1; omega, k.ne_ch hxS (Or.inl hc), g1, g2⟩
  have hd : ∀ d, rf h fr x = some d → d ≠ a ∧ d ≠ x ∧ d ∈ S ∧ rf h 6 d = some x := fun d hd => by
    have l1 := (k.ch_sl hxS (Or.inr hd)).2
    obtain ⟨g1, g2⟩ := k.chS hxS (Or.inr hd)
    exact ⟨fun e => by rw [e] at l1; omega, k.ne_ch hxS (Or.inr hd), g1, g2⟩
  have hb : ∀ b, rf h fl a = some b → b ≠ a ∧ b ≠ x ∧ b ∈ S ∧ rf h 6 b = some a := fun b hb => by
    obtain ⟨g1, g2⟩ := k.chS ha (Or.inl hb)
    exact ⟨k.ne_ch ha (Or.inl hb), k.lr ha hb hx, g1, g2⟩
  have sne : ∀ y, y ≠ x → y ≠ a → rotS fl fr h sub a x y = sub y := fun y h1 h2 => by unfold rotS; rw [if_neg h1, if_neg h2]
  have sx : rotS fl fr h sub a x x = sub a := by unfold rotS; rw [if_pos rfl]
  have sa : rotS fl fr h sub a x a = subO sub (rf h fl a) ++ a :: subO sub (rf h fl x) := by unfold rotS; rw [if_neg (Ne.symm hxa), if_pos rfl]
  refine ⟨?_, ?_, k.2.2.1, ?_, fun y hy => ?_⟩
  · by_cases e : a = r
    · rw [if_pos e, sx, e, k.1]
    · rw [if_neg e, sne r (Ne.symm hxr) (Ne.symm e), k.1]
  · by_cases e : a = r
    · rw [if_pos e]; exact hxS
    · rw [if_neg e]; exact k.2.1
  · by_cases e : a = r
    · rw [if_pos e, F6, if_neg hxa, if_pos rfl, e]; exact k.2.2.2.1
    · rw [if_neg e, F6, if_neg (Ne.symm e), if_neg (Ne.symm hxr), if_neg]
      · exact k.2.2.2.1
      · intro w
        have := (hc r w).2.2.2
        rw [k.2.2.2.1] at this; cases this
  · by_cases ya : y = a
    · subst ya
      rw [sa, Fl, Fr, if_neg (Ne.symm hxa), if_neg, if_pos rfl]
      · refine ⟨?_, fun b hb' => ?_, fun b hb' => ?_⟩
        · rw [subO_congr (o := rf h fl y) (fun b hb' => sne b (hb b hb').2.1 (hb b hb').1), subO_congr (o := rf h fl x) (fun c hc' => sne c (hc c hc').2.1 (hc c hc').1)]
        · obtain ⟨g1, g2, g3, g4⟩ := hb b hb'
          refine ⟨g3, ?_⟩
          rw [F6, if_neg g1, if_neg g2, if_neg]
          · exact g4
          · intro w
            have := (hc b w).2.2.2
            rw [g4] at this
            exact hxa (Option.some.inj this).symm
        · obtain ⟨g1, g2, g3, g4⟩ := hc b hb'
          refine ⟨g3, ?_⟩
          rw [F6, if_neg g1, if_neg g2, if_pos hb']
      · intro w
        exact (k.ne_ch (k.par ha w.1).1 (k.par ha w.1).2) rfl
    · by_cases yx : y = x
      · subst yx
        have nq : ¬ (rf h 6 a = some y ∧ ¬ rf h fl y = some a) := fun w => by
          obtain ⟨g1, g2⟩ := k.par ha w.1
          have := (k.ch_sl g1 g2).2
          omega
        rw [sx, Fl, Fr, if_pos rfl, if_neg ya, if_neg nq]
        refine ⟨?_, fun b hb' => ?_, fun b hb' => ?_⟩
        · show _ = rotS fl fr h sub a y a ++ _
          rw [sa, subO_congr (o := rf h fr y) (fun d hd' => sne d (hd d hd').2.1 (hd d hd').1), (k.2.2.2.2 a ha).1, hx]
          show _ ++ a :: sub y = _
          rw [(k.2.2.2.2 y hy).1]
          simp
        · cases hb'
          exact ⟨ha, by rw [F6, if_pos rfl]⟩
        · obtain ⟨g1, g2, g3, g4⟩ := hd b hb'
          refine ⟨g3, ?_⟩
          rw [F6, if_neg g1, if_neg g2, if_neg]
          · exact g4
          · exact fun w => k.lr hxS w hb' rfl
      · by_cases hq : rf h 6 a = some y
        · obtain ⟨q1, q2⟩ := k.par ha hq
          have lq := (k.ch_sl q1 q2).2
          have p6 : ∀ b, b ∈ S → rf h 6 b = some y → b ≠ a → rf (rotH fl fr h a x) 6 b = some y := fun b _ h1 h2 => by
            rw [F6, if_neg h2, if_neg, if_neg]
            · exact h1
            · intro w
              have := (hc b w).2.2.2
              rw [h1] at this
              exact yx (Option.some.inj this)
            · intro w
              rw [w, hx6] at h1
              exact ya (Option.some.inj h1).symm
          have x6 : rf (rotH fl fr h a x) 6 x = some y := by rw [F6, if_neg hxa, if_pos rfl]; exact hq
          have sb : ∀ b, b ∈ S → rf h 6 b = some y → b ≠ a → rotS fl fr h sub a x b = sub b := fun b _ h1 h2 => by
            refine sne b (fun w => ?_) h2
            rw [w, hx6] at h1
            exact ya (Option.some.inj h1).symm
          rw [sne y yx ya, Fl, Fr, if_neg yx, if_neg ya]
          obtain ⟨c1, c2, c3⟩ := k.2.2.2.2 y hy
          by_cases hfq : rf h fl y = some a
          · rw [if_pos ⟨hq, hfq⟩, if_neg (fun w => w.2 hfq)]
            have nr : ∀ b, rf h fr y = some b → b ≠ a := fun b hb' e => k.lr hy hfq hb' e.symm
            refine ⟨?_, fun b hb' => ?_, fun b hb' => ?_⟩
            · show _ = rotS fl fr h sub a x x ++ _
              rw [sx, c1, hfq, subO_congr (o := rf h fr y) (fun d hd' => sb d (c3 d hd').1 (c3 d hd').2 (nr d hd'))]
              rfl
            · cases hb'
              exact ⟨hxS, x6⟩
            · exact ⟨(c3 b hb').1, p6 b (c3 b hb').1 (c3 b hb').2 (nr b hb')⟩
          · have hfr : rf h fr y = some a := by
              rcases q2 with w | w
              · exact absurd w hfq
              · exact w
            rw [if_neg (fun w => hfq w.2), if_pos ⟨hq, hfq⟩]
            have nl : ∀ b, rf h fl y = some b → b ≠ a := fun b hb' e => hfq (by rw [hb', e])
            refine ⟨?_, fun b hb' => ?_, fun b hb' => ?_⟩
            · show _ = _ ++ y :: rotS fl fr h sub a x x
              rw [sx, c1, hfr, subO_congr (o := rf h fl y) (fun d hd' => sb d (c2 d hd').1 (c2 d hd').2 (nl d hd'))]
              rfl
            · exact ⟨(c2 b hb').1, p6 b (c2 b hb').1 (c2 b hb').2 (nl b hb')⟩
            · cases hb'
              exact ⟨hxS, x6⟩
        · rw [sne y yx ya, Fl, Fr, if_neg yx, if_neg ya, if_neg (fun w => hq w.1), if_neg (fun w => hq w.1)]
          obtain ⟨c1, c2, c3⟩ := k.2.2.2.2 y hy
          have gen : ∀ b, b ∈ S → rf h 6 b = some y → b ≠ a ∧ b ≠ x ∧ rf (rotH fl fr h a x) 6 b = some y := fun b _ h1 => by
            have b1 : b ≠ a := fun w => hq (by rw [← w]; exact h1)
            have b2 : b ≠ x := fun w => by rw [w, hx6] at h1; exact ya (Option.some.inj h1).symm
            refine ⟨b1, b2, ?_⟩
            rw [F6, if_neg b1, if_neg b2, if_neg]
            · exact h1
            · intro w
              have := (hc b w).2.2.2
              rw [h1] at this
              exact yx (Option.some.inj this)
          refine ⟨?_, fun b hb' => ⟨(c2 b hb').1, (gen b (c2 b hb').1 (c2 b hb').2).2.2⟩, fun b hb' => ⟨(c3 b hb').1, (gen b (c3 b hb').1 (c3 b hb').2).2.2⟩⟩
          rw [c1, subO_congr (o := rf h fl y) (fun d hd' => sne d (gen d (c2 d hd').1 (c2 d hd').2).2.1 (gen d (c2 d hd').1 (c2 d hd').2).1), subO_congr (o := rf h fr y) (fun d hd' => sne d (gen d (c3 d hd').1 (c3 d hd').2).2.1 (gen d (c3 d hd').1 (c3 d hd').2).1)]
end TRG
