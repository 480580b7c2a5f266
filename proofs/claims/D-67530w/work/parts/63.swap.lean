/-! REMOVETREENODE: a node with two children changes places with the next one -/
set_option maxRecDepth 100000
def swp (p s a : Nat) : Nat := if a = p then s else if a = s then p else a
theorem swp_swp {p s : Nat} (a : Nat) : swp p s (swp p s a) = a := by
  unfold swp
  by_cases h1 : a = p
  · subst h1
    rw [if_pos rfl]
    by_cases h2 : s = a
    · rw [if_pos h2]; exact h2
    · rw [if_neg h2, if_pos rfl]
  · rw [if_neg h1]
    by_cases h2 : a = s
    · rw [if_pos h2, if_pos rfl]; exact h2.symm
    · rw [if_neg h2, if_neg h1, if_neg h2]
theorem swp_ne {p s a : Nat} (h1 : a ≠ p) (h2 : a ≠ s) : swp p s a = a := by unfold swp; rw [if_neg h1, if_neg h2]
theorem swp_p (p s : Nat) : swp p s p = s := by unfold swp; rw [if_pos rfl]
theorem swp_s (p s : Nat) : swp p s s = p := by
  unfold swp
  by_cases h : s = p
  · rw [if_pos h]; exact h
  · rw [if_neg h, if_pos rfl]
/-- what the state behind the change of places is like -/
theorem swap_ok {h h2 : Hp} {r p s pl pr sp : Nat} {pp sr : Option Nat} {S : List Nat} {sub : Nat → List Nat} (k : Trg 7 8 h r S sub) (hp : p ∈ S) (hs : s ∈ S) (ps : p ≠ s) (hpl : rf h 7 p = some pl) (hpr : rf h 8 p = some pr) (hpp : rf h 6 p = pp) (hsp : rf h 6 s = some sp) (hsl : rf h 7 s = none) (hsr : rf h 8 s = sr) (sps : sp ≠ s) (pls : pl ≠ s) (lsp : (sub s).length < (sub p).length)
    (F6p : rf h2 6 p = some (if sp = p then s else sp)) (F7p : rf h2 7 p = none) (F8p : rf h2 8 p = sr) (F6s : rf h2 6 s = pp) (F7s : rf h2 7 s = some pl) (F8s : rf h2 8 s = if pr = s then some p else some pr)
    (F78 : ∀ a ∈ S, a ≠ p → a ≠ s → ∀ f, f = 7 ∨ f = 8 → rf h2 f a = if rf h f a = some p then some s else if rf h f a = some s then some p else rf h f a)
    (F6 : ∀ a ∈ S, a ≠ p → a ≠ s → rf h2 6 a = if rf h 6 a = some p then some s else if rf h 6 a = some s then some p else rf h 6 a) : Trg 7 8 h2 (swp p s r) (S.map (swp p s)) (fun a => (sub (swp p s a)).map (swp p s)) := by
  have om : ∀ o : Option Nat, o.map (swp p s) = if o = some p then some s else if o = some s then some p else o := fun o => by
    cases o with
    | none => rfl
    | some b =>
      show some (swp p s b) = _
      unfold swp
      by_cases h1 : b = p
      · rw [if_pos h1, if_pos (by rw [h1])]
      · rw [if_neg h1, if_neg (fun w => h1 (Option.some.inj w))]
        by_cases h2 : b = s
        · rw [if_pos h2, if_pos (by rw [h2])]
        · rw [if_neg h2, if_neg (fun w => h2 (Option.some.inj w))]
  have ppn : ∀ d, pp = some d → d ≠ p ∧ d ≠ s := fun d hd => by
    rw [hd] at hpp
    obtain ⟨dS, dc⟩ := k.par hp hpp
    have l1 := (k.ch_sl dS dc).2
    exact ⟨fun w => by rw [w] at l1; omega, fun w => by rw [w] at l1; omega⟩
  have srn : ∀ c, sr = some c → c ≠ p ∧ c ≠ s := fun c hc => by
    rw [hc] at hsr
    have l1 := (k.ch_sl hs (Or.inr hsr)).2
    exact ⟨fun w => by rw [w] at l1; omega, fun w => by rw [w] at l1; omega⟩
  have keepO : ∀ o : Option Nat, (∀ d, o = some d → d ≠ p ∧ d ≠ s) → o.map (swp p s) = o := fun o w => by
    cases o with
    | none => rfl
    | some d =>
      show some (swp p s d) = _
      rw [swp_ne (w d rfl).1 (w d rfl).2]
  have plp : pl ≠ p := k.ne_ch hp (Or.inl hpl)
  have prp : pr ≠ p := k.ne_ch hp (Or.inr hpr)
  refine k.relabel swp_swp (fun a ha f hf => ?_)
  by_cases h1 : a = p
  · subst h1
    rw [swp_p]
    rcases hf with w | w | w <;> subst w
    · rw [F6s, hpp, keepO pp ppn]
    · rw [F7s, hpl]
      show _ = some (swp a s pl)
      rw [swp_ne plp pls]
    · rw [F8s, hpr]
      show _ = some (swp a s pr)
      by_cases w : pr = s
      · rw [if_pos w, w, swp_s]
      · rw [if_neg w, swp_ne prp w]
  · by_cases h2 : a = s
    · subst h2
      rw [swp_s]
      rcases hf with w | w | w <;> subst w
      · rw [F6p, hsp]
        show _ = some (swp p a sp)
        by_cases w : sp = p
        · rw [if_pos w, w, swp_p]
        · rw [if_neg w, swp_ne w sps]
      · rw [F7p, hsl]; rfl
      · rw [F8p, hsr, keepO sr srn]
    · rw [swp_ne h1 h2, om]
      rcases hf with w | w | w
      · subst w; exact F6 a ha h1 h2
      · exact F78 a ha h1 h2 f (Or.inl w)
      · exact F78 a ha h1 h2 f (Or.inr w)
/-- the order of the nodes behind it -/
theorem swp_map {p s : Nat} {X Y : List Nat} (nd : (X ++ p :: s :: Y).Nodup) : (X ++ p :: s :: Y).map (swp p s) = X ++ s :: p :: Y ∧ flt p (X ++ s :: p :: Y) = flt p (X ++ p :: s :: Y) ∧ flt p (X ++ p :: s :: Y) = X ++ s :: Y := by
  have n1 := List.nodup_append.mp nd
  have n2 := List.nodup_cons.mp n1.2.1
  have n3 := List.nodup_cons.mp n2.2
  have xX : ∀ a ∈ X, a ≠ p ∧ a ≠ s := fun a ha => ⟨n1.2.2 a ha p List.mem_cons_self, n1.2.2 a ha s (by simp)⟩
  have xY : ∀ a ∈ Y, a ≠ p ∧ a ≠ s := fun a ha => ⟨fun w => n2.1 (by rw [← w]; simp [ha]), fun w => n3.1 (w ▸ ha)⟩
  have sp : s ≠ p := fun w => n2.1 (by rw [w]; simp)
  have fX : X.filter (fun a => decide (a ≠ p)) = X := List.filter_eq_self.mpr (fun a ha => decide_eq_true (xX a ha).1)
  have fY : Y.filter (fun a => decide (a ≠ p)) = Y := List.filter_eq_self.mpr (fun a ha => decide_eq_true (xY a ha).1)
  refine ⟨?_, ?_, ?_⟩
  · rw [List.map_append, List.map_cons, List.map_cons, swp_p, swp_s, List.map_congr_left (f := swp p s) (g := id) (l := X) (fun a ha => swp_ne (xX a ha).1 (xX a ha).2), List.map_congr_left (f := swp p s) (g := id) (l := Y) (fun a ha => swp_ne (xY a ha).1 (xY a ha).2)]
    simp
  · unfold flt
    rw [List.filter_append, List.filter_append, List.filter_cons, List.filter_cons, List.filter_cons, List.filter_cons]
    simp [sp]
  · unfold flt
    rw [List.filter_append, List.filter_cons, List.filter_cons, fX, fY]
    simp [sp]

theorem Trg.inf {h : Hp} {r : Nat} {S : List Nat} {sub : Nat → List Nat} (k : Trg 7 8 h r S sub) : ∀ (n a : Nat), a ∈ S → S.length ≤ n + (sub a).length → ∃ X Y, S = X ++ sub a ++ Y
  | n, a, ha, hn => by
    by_cases q : a = r
    · exact ⟨[], [], by rw [q, k.1]; simp⟩
    · obtain ⟨b, bS, b6, bc⟩ := k.up ha q
      have l1 := (k.ch_sl bS bc).2
      have l2 := (k.sl bS).length_le
      match n, hn with
      | 0, hn => omega
      | n + 1, hn =>
        obtain ⟨X, Y, e⟩ := k.inf n b bS (by omega)
        rcases bc with w | w
        · refine ⟨X, b :: subO sub (rf h 8 b) ++ Y, ?_⟩
          rw [e, (k.2.2.2.2 b bS).1, w]
          simp [subO]
        · refine ⟨X ++ subO sub (rf h 7 b) ++ [b], Y, ?_⟩
          rw [e, (k.2.2.2.2 b bS).1, w]
          simp [subO]
theorem rt_328 {h hb : Hp} {r p s pl pr sp : Nat} {S : List Nat} {sub : Nat → List Nat} {l2 : Option Nat} {l3 : Int32} {K : Hp → Prop} (k : Trg 7 8 h r S sub) (hp : p ∈ S) (hs : s ∈ S) (ps : p ≠ s) (hpl : rf h 7 p = some pl) (hpr : rf h 8 p = some pr) (hsp : rf h 6 s = some sp) (hsl : rf h 7 s = none) (sps : sp ≠ s) (lsp : (sub s).length < (sub p).length)
    (C : Chg (PT S) h hb) (B6p : rf hb 6 p = some (if sp = p then s else sp)) (B8s : rf hb 8 s = if pr = s then some p else some pr) (B78 : ∀ a ∈ S, a ≠ p → a ≠ s → ∀ f, f = 7 ∨ f = 8 → rf hb f a = if rf h f a = some s then some p else rf h f a) (B6 : ∀ a ∈ S, a ≠ p → a ≠ s → rf hb 6 a = if a = pr then some s else rf h 6 a)
    (adj : ∃ X Y, S = X ++ p :: s :: Y) (sin : s ∈ sub p)
    (fin : ∀ h' r', (∃ sub', Trg 7 8 h' r' (flt p S) sub') → Chg (PT S) h h' → wp_J8_removeTreeNode_b626 K h' l2 l3 (some r')) : wp_J8_removeTreeNode_b328 K hb l2 l3 (some r) (some p) (some pl) (some s) (rf h 8 s) (rf h 6 p) := by
  obtain ⟨plS, pl6⟩ := k.chS hp (Or.inl hpl)
  obtain ⟨prS, pr6⟩ := k.chS hp (Or.inr hpr)
  have plp : pl ≠ p := k.ne_ch hp (Or.inl hpl)
  obtain ⟨X, Y, eS⟩ := adj
  have nd := k.2.2.1
  rw [eS] at nd
  obtain ⟨m1, m2, m3⟩ := swp_map nd
  -- s is not on the left
  have pls : pl ≠ s := fun w => by
    rw [← w] at hsp hsl lsp eS
    rw [pl6] at hsp
    have spp : sp = p := (Option.some.inj hsp).symm
    have l : sub p = subO sub (rf h 7 p) ++ p :: subO sub (rf h 8 p) := (k.2.2.2.2 p hp).1
    obtain ⟨X2, Y2, e2⟩ := k.inf S.length p hp (by omega)
    rw [l, hpl] at e2
    have i1 : pl ∈ X2 ++ subO sub (some pl) := List.mem_append_right _ (k.self plS)
    have e3 : S = (X2 ++ subO sub (some pl)) ++ p :: (subO sub (rf h 8 p) ++ Y2) := by rw [e2]; simp
    have nd2 := k.2.2.1
    have e4 : S = X ++ p :: (pl :: Y) := eS
    -- p stands once
    have : X2 ++ subO sub (some pl) = X := by
      have a1 : (X2 ++ subO sub (some pl)) ++ p :: (subO sub (rf h 8 p) ++ Y2) = X ++ p :: (pl :: Y) := by rw [← e3, ← e4]
      rw [e3] at nd2
      have b1 := (List.nodup_append.mp nd2).2.2
      rw [List.append_eq_append_iff] at a1
      rcases a1 with ⟨w1, w2, w3⟩ | ⟨w1, w2, w3⟩
      · cases w1 with
        | nil => simpa using w2.symm
        | cons z Z =>
          simp at w3
          exfalso
          have : p ∈ Z ++ p :: pl :: Y := by simp
          rw [← w3.2] at this
          exact (List.nodup_cons.mp (List.nodup_append.mp nd2).2.1).1 this
      · cases w1 with
        | nil => simpa using w2
        | cons z Z =>
          simp at w3
          exfalso
          refine b1 p ?_ p List.mem_cons_self rfl
          rw [w2, ← w3.1]; simp
    rw [this] at i1
    exact (List.nodup_append.mp nd).2.2 pl i1 pl (by rw [← w]; simp) rfl
  have memS : ∀ a, a ∈ S.map (swp p s) ↔ a ∈ S := fun a => by
    have : (S.map (swp p s)).Perm S := by
      rw [eS, m1]
      exact (List.Perm.swap p s Y).append_left X
    exact this.mem_iff
  have fS : flt p (S.map (swp p s)) = flt p S := by rw [eS, m1, m2]
  have sr0 : ∀ c, rf h 8 s = some c → c ∈ S ∧ rf h 6 c = some s ∧ c ≠ p ∧ c ≠ s := fun c hc => by
    obtain ⟨z1, z2⟩ := k.chS hs (Or.inr hc)
    have l1 := (k.ch_sl hs (Or.inr hc)).2
    exact ⟨z1, z2, fun w => by rw [w] at l1; omega, fun w => by rw [w] at l1; omega⟩
  have pp0 : ∀ d, rf h 6 p = some d → d ∈ S ∧ chd 7 8 h d p ∧ d ≠ p ∧ d ≠ s := fun d hd => by
    obtain ⟨z1, z2⟩ := k.par hp hd
    have l1 := (k.ch_sl z1 z2).2
    exact ⟨z1, z2, fun w => by rw [w] at l1; omega, fun w => by rw [w] at l1; omega⟩
  -- the end: the places have been changed
  have fin3 : ∀ h2, Chg (PT S) h h2 → rf h2 6 p = some (if sp = p then s else sp) → rf h2 7 p = none → rf h2 8 p = rf h 8 s → rf h2 6 s = rf h 6 p → rf h2 7 s = some pl → rf h2 8 s = (if pr = s then some p else some pr) → (∀ a ∈ S, a ≠ p → a ≠ s → ∀ f, f = 7 ∨ f = 8 → rf h2 f a = if rf h f a = some p then some s else if rf h f a = some s then some p else rf h f a) → (∀ a ∈ S, a ≠ p → a ≠ s → rf h2 6 a = if a = pl then some s else if rf h 8 s = some a then some p else if a = pr then some s else rf h 6 a) → wp_J8_removeTreeNode_b415 K h2 l2 l3 (some (swp p s r)) (some p) (rf h 8 s) := by
    intro h2 c2 F6p F7p F8p F6s F7s F8s F78 F6
    have k2 := swap_ok (h2 := h2) k hp hs ps hpl hpr rfl hsp hsl rfl sps pls lsp F6p F7p F8p F6s F7s F8s F78 (fun a ha ap as => by
      rw [F6 a ha ap as]
      by_cases w1 : a = pl
      · rw [if_pos w1, w1, if_pos pl6]
      · rw [if_neg w1]
        by_cases w2 : rf h 8 s = some a
        · rw [if_pos w2, (sr0 a w2).2.1, if_neg (fun z => ps (Option.some.inj z).symm), if_pos rfl]
        · rw [if_neg w2]
          by_cases w3 : a = pr
          · rw [if_pos w3, w3, if_pos pr6]
          · rw [if_neg w3, if_neg (fun z => ?_), if_neg (fun z => ?_)]
            · rcases (k.par ha z).2 with y | y
              · rw [hsl] at y; cases y
              · exact w2 y
            · rcases (k.par ha z).2 with y | y
              · rw [hpl] at y; exact w1 (Option.some.inj y).symm
              · rw [hpr] at y; exact w3 (Option.some.inj y).symm)
    have fin4 : ∀ h' r', (∃ sub', Trg 7 8 h' r' (flt p (S.map (swp p s))) sub') → Chg (PT (S.map (swp p s))) h2 h' → wp_J8_removeTreeNode_b626 K h' l2 l3 (some r') := fun h' r' e1 e2 => fin h' r' (by rw [fS] at e1; exact e1) (c2.trans (e2.mono (fun f a w => ⟨(memS a).mp w.1, w.2⟩)))
    unfold wp_J8_removeTreeNode_b415 wp_J8_removeTreeNode_b431
    refine ⟨fun w => ?_, fun c hc => ?_⟩
    · exact rt_leaf k2 ((memS p).mpr hp) F7p (by rw [F8p]; exact w) ⟨s, (memS s).mpr hs, fun z => ps z.symm⟩ fin4
    · rw [hc]
      exact rt_one k2 ((memS p).mpr hp) (Or.inr ⟨F7p, by rw [F8p]; exact hc⟩) fin4
  have go2 : ∀ hc, Chg (PT S) h hc → rf hc 6 p = some (if sp = p then s else sp) → rf hc 7 p = none → rf hc 8 p = rf h 8 s → rf hc 8 s = (if pr = s then some p else some pr) → (∀ a ∈ S, a ≠ p → a ≠ s → ∀ f, f = 7 ∨ f = 8 → rf hc f a = if rf h f a = some s then some p else rf h f a) → (∀ a ∈ S, a ≠ p → a ≠ s → rf hc 6 a = if rf h 8 s = some a then some p else if a = pr then some s else rf h 6 a) → wp_J8_removeTreeNode_b352 K hc l2 l3 (some r) (some p) (some pl) (some s) (rf h 8 s) (rf h 6 p) := by
    intro hc c1 G6p G7p G8p G8s G78 G6
    unfold wp_J8_removeTreeNode_b352
    refine ⟨s, rfl, ?_⟩
    rintro h3 rfl
    refine ⟨(fun w => by cases w), fun pl' e => ?_⟩
    cases e
    rintro h4 rfl
    unfold wp_J8_removeTreeNode_b370
    refine ⟨s, rfl, ?_⟩
    rintro h5 rfl
    have c5 : Chg (PT S) h (wR (wR (wR hc 7 s (some pl)) 6 pl (some s)) 6 s (rf h 6 p)) := ((c1.wR _ ⟨hs, by omega⟩).wR _ ⟨plS, by omega⟩).wR _ ⟨hs, by omega⟩
    have v6p : rf (wR (wR (wR hc 7 s (some pl)) 6 pl (some s)) 6 s (rf h 6 p)) 6 p = some (if sp = p then s else sp) := by
      rw [rf_wR, if_neg (fun z => ps z.2), rf_wR, if_neg (fun z => plp z.2.symm), rf_wR, if_neg (by omega)]; exact G6p
    have v7p : rf (wR (wR (wR hc 7 s (some pl)) 6 pl (some s)) 6 s (rf h 6 p)) 7 p = none := by
      rw [rf_wR, if_neg (by omega), rf_wR, if_neg (by omega), rf_wR, if_neg (fun z => ps z.2)]; exact G7p
    have v8p : rf (wR (wR (wR hc 7 s (some pl)) 6 pl (some s)) 6 s (rf h 6 p)) 8 p = rf h 8 s := by
      rw [rf_wR, if_neg (by omega), rf_wR, if_neg (by omega), rf_wR, if_neg (by omega)]; exact G8p
    have v6s : rf (wR (wR (wR hc 7 s (some pl)) 6 pl (some s)) 6 s (rf h 6 p)) 6 s = rf h 6 p := by rw [rf_wR, if_pos ⟨rfl, rfl⟩]
    have v7s : rf (wR (wR (wR hc 7 s (some pl)) 6 pl (some s)) 6 s (rf h 6 p)) 7 s = some pl := by
      rw [rf_wR, if_neg (by omega), rf_wR, if_neg (by omega), rf_wR, if_pos ⟨rfl, rfl⟩]
    have v8s : rf (wR (wR (wR hc 7 s (some pl)) 6 pl (some s)) 6 s (rf h 6 p)) 8 s = (if pr = s then some p else some pr) := by
      rw [rf_wR, if_neg (by omega), rf_wR, if_neg (by omega), rf_wR, if_neg (by omega)]; exact G8s
    have v78 : ∀ a ∈ S, a ≠ p → a ≠ s → ∀ f, f = 7 ∨ f = 8 → rf (wR (wR (wR hc 7 s (some pl)) 6 pl (some s)) 6 s (rf h 6 p)) f a = if rf h f a = some s then some p else rf h f a := fun a ha ap as f hf => by
      rw [rf_wR, if_neg (by omega), rf_wR, if_neg (by omega), rf_wR, if_neg (fun z => as z.2)]; exact G78 a ha ap as f hf
    have v6 : ∀ a ∈ S, a ≠ p → a ≠ s → rf (wR (wR (wR hc 7 s (some pl)) 6 pl (some s)) 6 s (rf h 6 p)) 6 a = if a = pl then some s else if rf h 8 s = some a then some p else if a = pr then some s else rf h 6 a := fun a ha ap as => by
      rw [rf_wR, if_neg (fun z => as z.2)]
      by_cases w : a = pl
      · rw [w, rf_wR, if_pos ⟨rfl, rfl⟩, if_pos rfl]
      · rw [if_neg w, rf_wR, if_neg (fun z => w z.2), rf_wR, if_neg (by omega)]; exact G6 a ha ap as
    generalize wR (wR (wR hc 7 s (some pl)) 6 pl (some s)) 6 s (rf h 6 p) = h5 at c5 v6p v7p v8p v6s v7s v8s v78 v6
    refine ⟨fun w => ?_, fun d hd => ?_⟩
    · have prt := k.root_up hp w
      have := fin3 h5 c5 v6p v7p v8p v6s v7s v8s (fun a ha ap as f hf => by
        rw [v78 a ha ap as f hf]
        rw [if_neg (c := rf h f a = some p) (fun z => ?_)]
        have c : chd 7 8 h a p := by
          rcases hf with y | y
          · exact Or.inl (y ▸ z)
          · exact Or.inr (y ▸ z)
        have := (k.chS ha c).2
        rw [w] at this; cases this) v6
      rw [← prt, swp_p] at this
      exact this
    · obtain ⟨dS, dc, dp, ds⟩ := pp0 d hd
      have pr1 : p ≠ r := fun w => by rw [w, k.2.2.2.1] at hd; cases hd
      have sr1 : s ≠ r := fun w => by rw [w, k.2.2.2.1] at hsp; cases hsp
      have er : swp p s r = r := swp_ne (fun w => pr1 w.symm) (fun w => sr1 w.symm)
      rw [er] at fin3
      have dch : ∀ f, f = 7 ∨ f = 8 → rf h f d = some p → rf h5 f d = some p := fun f hf z => by
        rw [v78 d dS dp ds f hf, if_neg (fun y => by rw [z] at y; exact ps (Option.some.inj y)), z]
      have fin5 : ∀ g, (g = 7 ∨ g = 8) → rf h g d = some p → wp_J8_removeTreeNode_b415 K (wR h5 g d (some s)) l2 l3 (some r) (some p) (rf h 8 s) := fun g hg hgd => by
        have off : ∀ f a, a ≠ d → rf (wR h5 g d (some s)) f a = rf h5 f a := fun f a z => by rw [rf_wR, if_neg (fun y => z y.2)]
        have offg : ∀ f a, f ≠ g → rf (wR h5 g d (some s)) f a = rf h5 f a := fun f a z => by rw [rf_wR, if_neg (fun y => z y.1)]
        refine fin3 _ (c5.wR _ ⟨dS, by omega⟩) (by rw [off _ _ (Ne.symm dp)]; exact v6p) (by rw [off _ _ (Ne.symm dp)]; exact v7p) (by rw [off _ _ (Ne.symm dp)]; exact v8p) (by rw [off _ _ (Ne.symm ds)]; exact v6s) (by rw [off _ _ (Ne.symm ds)]; exact v7s) (by rw [off _ _ (Ne.symm ds)]; exact v8s) (fun a ha ap as f hf => ?_) (fun a ha ap as => by rw [offg 6 a (by omega)]; exact v6 a ha ap as)
        by_cases w : rf h f a = some p
        · have c : chd 7 8 h a p := by
            rcases hf with z | z
            · exact Or.inl (z ▸ w)
            · exact Or.inr (z ▸ w)
          have ad : a = d := by
            have := (k.chS ha c).2
            rw [hd] at this
            exact (Option.some.inj this).symm
          subst ad
          have fg : f = g := by
            rcases hf with z | z <;> rcases hg with y | y
            · omega
            · exact absurd rfl (k.lr ha (z ▸ w) (y ▸ hgd))
            · exact absurd rfl (k.lr ha (y ▸ hgd) (z ▸ w))
            · omega
          rw [if_pos w, rf_wR, if_pos ⟨fg, rfl⟩]
        · rw [if_neg w, rf_wR, if_neg (fun z => w (by rw [z.1, z.2]; exact hgd))]
          exact v78 a ha ap as f hf
      refine ⟨fun w => ?_, fun w => ?_⟩
      · rintro h6 rfl
        refine fin5 8 (by omega) ?_
        rcases dc with z | z
        · exact absurd (dch 7 (by omega) z).symm w
        · exact z
      · rintro h6 rfl
        refine fin5 7 (by omega) ?_
        rcases dc with z | z
        · exact z
        · have y := v78 d dS dp ds 7 (by omega)
          rw [← w] at y
          by_cases x : rf h 7 d = some s
          · have := (k.chS dS (Or.inl x)).2
            have z2 := (k.chS dS (Or.inr z)).2
            rw [hsp] at this
            cases this
            exfalso
            have nd3 := k.nd dS
            rw [(k.2.2.2.2 sp dS).1, x, z] at nd3
            exact (List.nodup_append.mp nd3).2.2 s (k.self hs) s (List.mem_cons_of_mem _ sin) rfl
          · rw [if_neg x] at y
            exact y.symm
  have sp0 : sp = p ∨ sp ≠ p := Classical.em _
  unfold wp_J8_removeTreeNode_b328
  refine ⟨p, rfl, ?_⟩
  rintro h1 rfl h2 rfl
  have c2 : Chg (PT S) h (wR (wR hb 7 p none) 8 p (rf h 8 s)) := (C.wR _ ⟨hp, by omega⟩).wR _ ⟨hp, by omega⟩
  have o : ∀ f a, a ≠ p → rf (wR (wR hb 7 p none) 8 p (rf h 8 s)) f a = rf hb f a := fun f a z => by rw [rf_wR, if_neg (fun y => z y.2), rf_wR, if_neg (fun y => z y.2)]
  have o6 : rf (wR (wR hb 7 p none) 8 p (rf h 8 s)) 6 p = rf hb 6 p := by rw [rf_wR, if_neg (by omega), rf_wR, if_neg (by omega)]
  have o7 : rf (wR (wR hb 7 p none) 8 p (rf h 8 s)) 7 p = none := by rw [rf_wR, if_neg (by omega), rf_wR, if_pos ⟨rfl, rfl⟩]
  have o8 : rf (wR (wR hb 7 p none) 8 p (rf h 8 s)) 8 p = rf h 8 s := by rw [rf_wR, if_pos ⟨rfl, rfl⟩]
  generalize wR (wR hb 7 p none) 8 p (rf h 8 s) = h2 at c2 o o6 o7 o8
  refine ⟨fun w => ?_, fun c hc => ?_⟩
  · refine go2 h2 c2 (o6.trans B6p) o7 o8 (by rw [o 8 s (Ne.symm ps)]; exact B8s) (fun a ha ap as f hf => by rw [o f a ap]; exact B78 a ha ap as f hf) (fun a ha ap as => by rw [o 6 a ap, if_neg (fun z => by rw [w] at z; cases z)]; exact B6 a ha ap as)
  · rintro h3 rfl
    obtain ⟨cS, c6, cp, cs⟩ := sr0 c hc
    refine go2 _ (c2.wR _ ⟨cS, by omega⟩) (by rw [rf_wR, if_neg (fun z => cp z.2.symm), o6]; exact B6p) (by rw [rf_wR, if_neg (by omega)]; exact o7) (by rw [rf_wR, if_neg (by omega)]; exact o8) (by rw [rf_wR, if_neg (by omega), o 8 s (Ne.symm ps)]; exact B8s) (fun a ha ap as f hf => by rw [rf_wR, if_neg (by omega), o f a ap]; exact B78 a ha ap as f hf) (fun a ha ap as => ?_)
    by_cases w : a = c
    · rw [w, rf_wR, if_pos ⟨rfl, rfl⟩, if_pos hc]
    · rw [rf_wR, if_neg (fun z => w z.2), o 6 a ap, if_neg (fun z => w (by rw [hc] at z; exact (Option.some.inj z).symm))]
      exact B6 a ha ap as
/-- a node with two children goes -/
theorem rt_two {h : Hp} {r p pl pr : Nat} {S : List Nat} {sub : Nat → List Nat} {l2 : Option Nat} {l3 : Int32} {K : Hp → Prop} (k : Trg 7 8 h r S sub) (hp : p ∈ S) (hpl : rf h 7 p = some pl) (hpr : rf h 8 p = some pr)
    (fin : ∀ h' r', (∃ sub', Trg 7 8 h' r' (flt p S) sub') → Chg (PT S) h h' → wp_J8_removeTreeNode_b626 K h' l2 l3 (some r')) :
    ∀ (n s : Nat), s ∈ S → (sub s).length ≤ n → (∃ Z, sub pr = sub s ++ Z) → wp_J8_removeTreeNode_b185 K n h l2 l3 (some r) (some p) (some pl) (some pr) (some s)
  | 0, s, hs, hn, hZ => by
    have := List.length_pos_of_mem (k.self hs)
    omega
  | n + 1, s, hs, hn, hZ => by
    obtain ⟨Z, hZ⟩ := hZ
    obtain ⟨prS, pr6⟩ := k.chS hp (Or.inr hpr)
    have lpr := k.ch_sl hp (Or.inr hpr)
    have lss : (sub s).length ≤ (sub pr).length := by rw [hZ, List.length_append]; omega
    have lsp : (sub s).length < (sub p).length := by omega
    have ps : p ≠ s := fun w => by rw [w] at lsp; omega
    have spr : s ∈ sub pr := by rw [hZ]; exact List.mem_append_left _ (k.self hs)
    have sin : s ∈ sub p := lpr.1.subset spr
    have prp : pr ≠ p := k.ne_ch hp (Or.inr hpr)
    unfold wp_J8_removeTreeNode_b185
    refine ⟨s, rfl, fun hsl _ => ⟨p, rfl, fun _ => ?_⟩, fun b hb => ?_⟩
    · rintro h1 rfl h2 rfl
      have srt : s ≠ r := fun w => by
        have := (k.sl hp).length_le
        rw [w, k.1] at lsp
        omega
      obtain ⟨sp, spS, s6, spc⟩ := k.up hs srt
      have sps : sp ≠ s := fun w => k.ne_ch spS spc w.symm
      have adj : ∃ X Y, S = X ++ p :: s :: Y := by
        obtain ⟨X, Y, e⟩ := k.inf S.length p hp (by omega)
        have e1 := (k.2.2.2.2 p hp).1
        have e2 := (k.2.2.2.2 s hs).1
        rw [hpr] at e1
        rw [hsl] at e2
        refine ⟨X ++ subO sub (rf h 7 p), subO sub (rf h 8 s) ++ Z ++ Y, ?_⟩
        rw [e, e1]
        show X ++ (subO sub (rf h 7 p) ++ p :: sub pr) ++ Y = _
        rw [hZ, e2]
        simp [subO]
      have R : ∀ f a, rf (wI (wI h 10 s (it h 10 p)) 10 p (it h 10 s)) f a = rf h f a := fun _ _ => rfl
      have C : Chg (PT S) h (wI (wI h 10 s (it h 10 p)) 10 p (it h 10 s)) := ((Chg.refl _ h).wI _ ⟨hs, by omega⟩).wI _ ⟨hp, by omega⟩
      generalize wI (wI h 10 s (it h 10 p)) 10 p (it h 10 s) = h2 at R C
      refine ⟨fun w => ?_, fun w => ?_⟩
      · have spr2 : s ≠ pr := fun z => w (by rw [z])
        rintro h3 rfl
        rw [R 6 s, R 8 s, R 6 p, s6]
        refine ⟨(fun z => by cases z), fun sp' e => ?_⟩
        cases e
        have spp : sp ≠ p := fun z => by
          rw [z] at spc
          rcases spc with y | y
          · -- s would be the left child
            obtain ⟨X, Y, e⟩ := adj
            have nd3 := k.nd hp
            rw [(k.2.2.2.2 p hp).1, y, hpr] at nd3
            exact (List.nodup_append.mp nd3).2.2 s (k.self hs) s (List.mem_cons_of_mem _ spr) rfl
          · rw [hpr] at y
            exact spr2 (Option.some.inj y).symm
        -- whichever child of sp s is
        have run : ∀ g, (g = 7 ∨ g = 8) → rf h g sp = some s → wp_J8_removeTreeNode_b310 K (wR (wR h2 6 p (some sp)) g sp (some p)) l2 l3 (some r) (some p) (some pl) (some pr) (some s) (rf h 8 s) (rf h 6 p) := fun g hg hgs => by
          unfold wp_J8_removeTreeNode_b310
          refine ⟨s, rfl, ?_⟩
          rintro h4 rfl
          refine ⟨(fun z => by cases z), fun pr' e => ?_⟩
          cases e
          rintro h5 rfl
          refine rt_328 k hp hs ps hpl hpr s6 hsl sps lsp ((((C.wR _ ⟨hp, by omega⟩).wR _ ⟨spS, by omega⟩).wR _ ⟨hs, by omega⟩).wR _ ⟨prS, by omega⟩) ?_ ?_ (fun a ha ap as f hf => ?_) (fun a ha ap as => ?_) adj sin fin
          · rw [if_neg spp, rf_wR, if_neg (fun z => prp z.2.symm), rf_wR, if_neg (by omega), rf_wR, if_neg (by omega), rf_wR, if_pos ⟨rfl, rfl⟩]
          · rw [if_neg (Ne.symm spr2), rf_wR, if_neg (by omega), rf_wR, if_pos ⟨rfl, rfl⟩]
          · rw [rf_wR, if_neg (by omega), rf_wR, if_neg (fun z => as z.2)]
            by_cases x : rf h f a = some s
            · have c : chd 7 8 h a s := by
                rcases hf with z | z
                · exact Or.inl (z ▸ x)
                · exact Or.inr (z ▸ x)
              have ad : a = sp := by
                have := (k.chS ha c).2
                rw [s6] at this
                exact (Option.some.inj this).symm
              subst ad
              have fg : f = g := by
                rcases hf with z | z <;> rcases hg with y | y
                · omega
                · exact absurd rfl (k.lr ha (z ▸ x) (y ▸ hgs))
                · exact absurd rfl (k.lr ha (y ▸ hgs) (z ▸ x))
                · omega
              rw [if_pos x, rf_wR, if_pos ⟨fg, rfl⟩]
            · rw [if_neg x, rf_wR, if_neg (fun z => x (by rw [z.1, z.2]; exact hgs)), rf_wR, if_neg (by omega)]
              exact R f a
          · by_cases x : a = pr
            · rw [x, rf_wR, if_pos ⟨rfl, rfl⟩, if_pos rfl]
            · rw [if_neg x, rf_wR, if_neg (fun z => x z.2), rf_wR, if_neg (by omega), rf_wR, if_neg (by omega), rf_wR, if_neg (fun z => ap z.2)]
              exact R 6 a
        have r7 : rf (wR h2 6 p (some sp)) 7 sp = rf h 7 sp := by rw [rf_wR, if_neg (by omega)]; exact R 7 sp
        refine ⟨fun z => ?_, fun z => ?_⟩
        · rintro h4 rfl
          refine run 8 (by omega) ?_
          rcases spc with y | y
          · exact absurd (by rw [r7]; exact y.symm) z
          · exact y
        · rintro h4 rfl
          exact run 7 (by omega) (by rw [← r7]; exact z.symm)
      · have espr : s = pr := Option.some.inj w
        rintro h3 rfl h4 rfl
        rw [R 8 s, R 6 p]
        have esp : sp = p := by
          rw [espr, pr6] at s6
          exact (Option.some.inj s6).symm
        refine rt_328 k hp hs ps hpl hpr s6 hsl sps lsp ((C.wR _ ⟨hp, by omega⟩).wR _ ⟨hs, by omega⟩) ?_ ?_ (fun a ha ap as f hf => ?_) (fun a ha ap as => ?_) adj sin fin
        · rw [if_pos esp, rf_wR, if_neg (by omega), rf_wR, if_pos ⟨rfl, rfl⟩]
        · rw [if_pos espr.symm, rf_wR, if_pos ⟨rfl, rfl⟩]
        · rw [rf_wR, if_neg (fun z => as z.2), rf_wR, if_neg (by omega), R f a, if_neg (fun x => ?_)]
          have c : chd 7 8 h a s := by
            rcases hf with z | z
            · exact Or.inl (z ▸ x)
            · exact Or.inr (z ▸ x)
          have := (k.chS ha c).2
          rw [s6, esp] at this
          exact ap (Option.some.inj this).symm
        · rw [rf_wR, if_neg (by omega), rf_wR, if_neg (fun z => ap z.2), R 6 a, if_neg (fun z => as (z.trans espr.symm))]
    · rw [hb]
      have bS := (k.chS hs (Or.inl hb)).1
      have l1 := (k.ch_sl hs (Or.inl hb)).2
      have e2 := (k.2.2.2.2 s hs).1
      rw [hb] at e2
      exact rt_two k hp hpl hpr fin n b bS (by omega) ⟨s :: subO sub (rf h 8 s) ++ Z, by rw [hZ, e2]; simp [subO]⟩
/-- the tree's part of removeTreeNode -/
theorem rt_156 {h : Hp} {r p : Nat} {S : List Nat} {sub : Nat → List Nat} {l2 : Option Nat} {l3 : Int32} {K : Hp → Prop} (k : Trg 7 8 h r S sub) (hp : p ∈ S) (hS : ∃ y ∈ S, y ≠ p)
    (fin : ∀ h' r', (∃ sub', Trg 7 8 h' r' (flt p S) sub') → Chg (PT S) h h' → wp_J8_removeTreeNode_b626 K h' l2 l3 (some r')) : wp_J8_removeTreeNode_b156 K h (some p) l2 l3 (some r) := by
  unfold wp_J8_removeTreeNode_b156
  refine ⟨p, rfl, fun h7 => ?_, fun pl hpl => ⟨fun h8 => ?_, fun pr hpr => ?_⟩⟩
  · unfold wp_J8_removeTreeNode_b434
    rw [h7]
    refine ⟨fun _ => ⟨fun h8 => rt_leaf k hp h7 h8 hS fin, fun c hc => ?_⟩, (fun a w => by cases w)⟩
    rw [hc]
    exact rt_one k hp (Or.inr ⟨h7, hc⟩) fin
  · unfold wp_J8_removeTreeNode_b434
    rw [hpl]
    exact ⟨(fun w => by cases w), fun c hc => rt_one k hp (Or.inl ⟨hpl, h8⟩) fin⟩
  · rw [hpl, hpr]
    exact ⟨(sub pr).length, rt_two k hp hpl hpr fin _ pr (k.chS hp (Or.inr hpr)).1 (Nat.le_refl _) ⟨[], by simp⟩⟩
