/-! REMOVETREENODE, the tree -/
set_option maxRecDepth 100000
def flt (p : Nat) (S : List Nat) : List Nat := S.filter (fun a => decide (a ≠ p))
theorem mem_flt {p a : Nat} {S : List Nat} : a ∈ flt p S ↔ a ∈ S ∧ a ≠ p := by unfold flt; rw [List.mem_filter]; simp
/-- a node with one child goes: the child stands in its place -/
theorem rt_one {h : Hp} {r p q : Nat} {S : List Nat} {sub : Nat → List Nat} {l2 : Option Nat} {l3 : Int32} {K : Hp → Prop} (k : Trg 7 8 h r S sub) (hp : p ∈ S) (hq : (rf h 7 p = some q ∧ rf h 8 p = none) ∨ (rf h 7 p = none ∧ rf h 8 p = some q))
    (fin : ∀ h' r', (∃ sub', Trg 7 8 h' r' (flt p S) sub') → Chg (PT S) h h' → wp_J8_removeTreeNode_b626 K h' l2 l3 (some r')) : wp_J8_removeTreeNode_b462 K h l2 l3 (some r) (some p) (some q) := by
  have cq : chd 7 8 h p q := by
    rcases hq with w | w
    · exact Or.inl w.1
    · exact Or.inr w.2
  obtain ⟨qS, q6⟩ := k.chS hp cq
  have qp : q ≠ p := k.ne_ch hp cq
  -- behind the setting of the links
  have tail : ∀ h1 r1, Chg (PT S) h h1 → (∃ sub', Trg 7 8 h1 r1 (flt p S) sub') → wp_J8_removeTreeNode_b544 K h1 l2 l3 (some r1) (some p) (some q) := by
    intro h1 r1 c1 e1
    obtain ⟨sub1, k1⟩ := e1
    unfold wp_J8_removeTreeNode_b544
    have b564 : ∀ h2 r2, wp_J8_removeTreeNode_b626 K h2 l2 l3 (some r2) → wp_J8_removeTreeNode_b564 K h2 l2 l3 (some p) (some q) (some r2) := fun h2 r2 z => by
      unfold wp_J8_removeTreeNode_b564
      exact ⟨fun _ => z, fun w => absurd (Option.some.inj w) qp⟩
    refine ⟨p, rfl, fun _ => ⟨fun _ => ?_, fun _ => b564 h1 r1 (fin h1 r1 ⟨_, k1⟩ c1)⟩⟩
    refine s_balanceDeletion k1 (mem_flt.mpr ⟨qS, qp⟩) (fun h2 r2 e2 t2 _ _ => b564 h2 r2 (fin h2 r2 e2 (c1.trans (t2.chg.mono (fun f a w => ⟨(mem_flt.mp w.1).1, w.2⟩)))))
  have b526 : ∀ h1 r1, Chg (PT S) h h1 → (∀ f a, a ≠ p → rf (wR (wR (wR h1 6 p none) 8 p none) 7 p none) f a = rf h1 f a) → ((p = r ∧ r1 = q) ∨ (p ≠ r ∧ r1 = r)) → (∀ a ∈ S, a ≠ p → ∀ f, f = 7 ∨ f = 8 → rf h1 f a = if rf h f a = some p then some q else rf h f a) → (∀ a ∈ S, a ≠ p → rf h1 6 a = if some q = some a then rf h 6 p else rf h 6 a) → wp_J8_removeTreeNode_b526 K h1 l2 l3 (some r1) (some p) (some q) := by
    intro h1 r1 c1 same hr e7 e6
    unfold wp_J8_removeTreeNode_b526
    refine ⟨p, rfl, ?_⟩
    rintro h2 rfl h3 rfl h4 rfl
    refine tail _ r1 (((c1.wR _ ⟨hp, by omega⟩).wR _ ⟨hp, by omega⟩).wR _ ⟨hp, by omega⟩) ⟨_, k.del hp hq ?_ (fun a ha ap f hf => ?_) (fun a ha ap => ?_)⟩
    · rcases hr with w | w
      · exact Or.inl ⟨w.1, by rw [w.2]⟩
      · exact Or.inr w
    · rw [same f a ap]; exact e7 a ha ap f hf
    · rw [same 6 a ap]; exact e6 a ha ap
  have same : ∀ h1 : Hp, ∀ f a, a ≠ p → rf (wR (wR (wR h1 6 p none) 8 p none) 7 p none) f a = rf h1 f a := fun h1 f a ap => by
    rw [rf_wR, if_neg (fun w => ap w.2), rf_wR, if_neg (fun w => ap w.2), rf_wR, if_neg (fun w => ap w.2)]
  unfold wp_J8_removeTreeNode_b462
  refine ⟨fun w => absurd (Option.some.inj w) qp, fun _ => ⟨p, rfl, q, rfl, ?_⟩⟩
  rintro h1 rfl
  have n6 : ∀ a, a ≠ q → rf (wR h 6 q (rf h 6 p)) 6 a = rf h 6 a := fun a w => by rw [rf_wR, if_neg (fun z => w z.2)]
  have n7 : ∀ f a, f = 7 ∨ f = 8 → rf (wR h 6 q (rf h 6 p)) f a = rf h f a := fun f a w => by rw [rf_wR, if_neg (by omega)]
  refine ⟨fun h6 => ?_, fun d h6 => ?_⟩
  · rintro h2 rfl
    have pr := k.root_up hp h6
    refine b526 _ q ((Chg.refl _ h).wR _ ⟨qS, by omega⟩ |>.wI _ ⟨qS, by omega⟩) (same _) (Or.inl ⟨pr, rfl⟩) (fun a ha ap f hf => ?_) (fun a ha ap => ?_)
    · rw [rf_wI, n7 f a hf, if_neg (fun w => ?_)]
      have c : chd 7 8 h a p := by
        rcases hf with z | z
        · exact Or.inl (z ▸ w)
        · exact Or.inr (z ▸ w)
      have := (k.chS ha c).2
      rw [h6] at this; cases this
    · rw [rf_wI]
      by_cases w : a = q
      · rw [w, rf_wR, if_pos ⟨rfl, rfl⟩, if_pos rfl]
      · rw [n6 a w, if_neg (fun z => w (Option.some.inj z).symm)]
  · obtain ⟨dS, dc⟩ := k.par hp h6
    have dp : d ≠ p := fun w => k.ne_ch dS dc (w.symm)
    have pr : p ≠ r := fun w => by rw [w, k.2.2.2.1] at h6; cases h6
    have e6 : ∀ h2, (∀ a, rf h2 6 a = rf (wR h 6 q (rf h 6 p)) 6 a) → ∀ a ∈ S, a ≠ p → rf h2 6 a = if some q = some a then rf h 6 p else rf h 6 a := fun h2 z a ha ap => by
      rw [z]
      by_cases w : a = q
      · rw [w, rf_wR, if_pos ⟨rfl, rfl⟩, if_pos rfl]
      · rw [n6 a w, if_neg (fun z => w (Option.some.inj z).symm)]
    have fin2 : ∀ g, (g = 7 ∨ g = 8) → rf h g d = some p → wp_J8_removeTreeNode_b526 K (wR (wR h 6 q (rf h 6 p)) g d (some q)) l2 l3 (some r) (some p) (some q) := fun g hg hgd => by
      refine b526 _ r (((Chg.refl _ h).wR _ ⟨qS, by omega⟩).wR _ ⟨dS, by omega⟩) (same _) (Or.inr ⟨pr, rfl⟩) (fun a ha ap f hf => ?_) (e6 _ (fun a => by rw [rf_wR, if_neg (by omega)]))
      by_cases w : rf h f a = some p
      · have c : chd 7 8 h a p := by
          rcases hf with z | z
          · exact Or.inl (z ▸ w)
          · exact Or.inr (z ▸ w)
        have ad : a = d := by
          have := (k.chS ha c).2
          rw [h6] at this
          exact (Option.some.inj this).symm
        subst ad
        have fg : f = g := by
          rcases hf with z | z <;> rcases hg with y | y
          · omega
          · exact absurd rfl (k.lr ha (z ▸ w) (y ▸ hgd))
          · exact absurd rfl (k.lr ha (y ▸ hgd) (z ▸ w))
          · omega
        rw [if_pos w, rf_wR, if_pos ⟨fg, rfl⟩]
      · rw [if_neg w, rf_wR, if_neg (fun z => w (by rw [z.1, z.2]; exact hgd)), n7 f a hf]
    have nd : rf (wR h 6 q (rf h 6 p)) 7 d = rf h 7 d := n7 7 d (by omega)
    refine ⟨fun w => ?_, fun w => ?_⟩
    · rintro h2 rfl
      refine fin2 8 (by omega) ?_
      rcases dc with z | z
      · rw [nd, z] at w; exact absurd rfl w
      · exact z
    · rintro h2 rfl
      refine fin2 7 (by omega) ?_
      rw [← nd]; exact w.symm
/-- a leaf goes -/
theorem rt_leaf {h : Hp} {r p : Nat} {S : List Nat} {sub : Nat → List Nat} {l2 : Option Nat} {l3 : Int32} {K : Hp → Prop} (k : Trg 7 8 h r S sub) (hp : p ∈ S) (h7 : rf h 7 p = none) (h8 : rf h 8 p = none) (hS : ∃ y ∈ S, y ≠ p)
    (fin : ∀ h' r', (∃ sub', Trg 7 8 h' r' (flt p S) sub') → Chg (PT S) h h' → wp_J8_removeTreeNode_b626 K h' l2 l3 (some r')) : wp_J8_removeTreeNode_b462 K h l2 l3 (some r) (some p) (some p) := by
  unfold wp_J8_removeTreeNode_b462
  refine ⟨fun _ => ?_, fun w => absurd rfl w⟩
  have b564 : ∀ h1 r1, (∃ sub', Trg 7 8 h1 r1 S sub') → Chg (PT S) h h1 → rf h1 7 p = none → rf h1 8 p = none → wp_J8_removeTreeNode_b564 K h1 l2 l3 (some p) (some p) (some r1) := by
    intro h1 r1 e1 c1 g7 g8
    obtain ⟨sub1, k1⟩ := e1
    unfold wp_J8_removeTreeNode_b564
    refine ⟨fun w => absurd rfl w, fun _ => ⟨p, rfl, ?_⟩⟩
    rintro h2 rfl
    refine ⟨fun h6 => ?_, fun d h6 => ?_⟩
    · have pr := k1.root_up hp h6
      obtain ⟨y, yS, yp⟩ := hS
      have e : S = [p] := by
        rw [← k1.1, ← pr, (k1.2.2.2.2 p hp).1, g7, g8]; rfl
      rw [e] at yS
      exact absurd (List.mem_singleton.mp yS) yp
    · obtain ⟨dS, dc⟩ := k1.par hp h6
      have dp : d ≠ p := fun w => k1.ne_ch dS dc (w.symm)
      have pr : p ≠ r1 := fun w => by rw [w, k1.2.2.2.1] at h6; cases h6
      have n7 : ∀ f a, a ≠ p → rf (wR h1 6 p none) f a = rf h1 f a := fun f a w => by rw [rf_wR, if_neg (fun z => w z.2)]
      have fin2 : ∀ g, (g = 7 ∨ g = 8) → rf h1 g d = some p → wp_J8_removeTreeNode_b626 K (wR (wR h1 6 p none) g d none) l2 l3 (some r1) := fun g hg hgd => by
        refine fin _ r1 ⟨_, k1.del (q := none) hp (Or.inl ⟨g7, g8⟩) (Or.inr ⟨pr, rfl⟩) (fun a ha ap f hf => ?_) (fun a ha ap => ?_)⟩ ((c1.wR _ ⟨hp, by omega⟩).wR _ ⟨dS, by omega⟩)
        · by_cases w : rf h1 f a = some p
          · have c : chd 7 8 h1 a p := by
              rcases hf with z | z
              · exact Or.inl (z ▸ w)
              · exact Or.inr (z ▸ w)
            have ad : a = d := by
              have := (k1.chS ha c).2
              rw [h6] at this
              exact (Option.some.inj this).symm
            subst ad
            have fg : f = g := by
              rcases hf with z | z <;> rcases hg with y | y
              · omega
              · exact absurd rfl (k1.lr ha (z ▸ w) (y ▸ hgd))
              · exact absurd rfl (k1.lr ha (y ▸ hgd) (z ▸ w))
              · omega
            rw [if_pos w, rf_wR, if_pos ⟨fg, rfl⟩]
          · rw [if_neg w, rf_wR, if_neg (fun z => w (by rw [z.1, z.2]; exact hgd)), n7 f a ap]
        · rw [if_neg (fun w => by cases w), rf_wR, if_neg (by omega), n7 6 a ap]
      refine ⟨fun w => ⟨fun w2 => ?_, fun w2 => ?_⟩, fun w => ?_⟩
      · rw [n7 7 d dp] at w
        rw [n7 8 d dp] at w2
        rcases dc with z | z
        · exact absurd z.symm w
        · exact absurd z.symm w2
      · rintro h3 rfl
        rw [n7 8 d dp] at w2
        exact fin2 8 (by omega) w2.symm
      · rintro h3 rfl
        rw [n7 7 d dp] at w
        exact fin2 7 (by omega) w.symm
  unfold wp_J8_removeTreeNode_b544
  refine ⟨p, rfl, fun _ => ⟨fun _ => ?_, fun _ => b564 h r ⟨_, k⟩ (Chg.refl _ h) h7 h8⟩⟩
  exact s_balanceDeletion k hp (fun h1 r1 e1 t1 lf _ => b564 h1 r1 e1 t1.chg (lf h7 h8).1 (lf h7 h8).2)
