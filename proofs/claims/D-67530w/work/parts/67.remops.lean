/-! REMOVE -/
set_option maxRecDepth 100000
theorem s_remove {h : Hp} {m n C Q : Nat} {O : List Nat} {c : Nat} {K : Option Nat → Hp → Prop} (k : MI h m n O) (hl : O.length ≤ 1464) (B : Bud h n O (C + 2928) (Q + 24888))
    (fin1 : ∀ p ∈ O, keyI h p = it h 23 c → ∀ h' O', MI h' m n O' → Mst h h' m O O' → O'.map (pr h') = (flt p O).map (pr h) → Bud h' n O' C Q → K (rf h 2 p) h')
    (fin0 : (∀ p ∈ O, keyI h p ≠ it h 23 c) → K none h) : wp_J1_remove h (some m) (some c) K := by
  obtain ⟨bn, kb⟩ := id k.1
  unfold wp_J1_remove
  refine s_hash (fun _ => ⟨m, rfl, s_removeNode (v := 0) k kb hl rfl (fun w => by cases w) (fun _ => B) (fun w => absurd rfl w) (fun p hp e _ h' O' i L' _ _ q1 _ q3 q4 q5 _ q7 _ => ?_) (fun ne _ => ?_)⟩)
  · unfold wp_J1_remove_b12 wp_J1_remove_b25
    refine ⟨(fun w => by cases w), fun a w => ?_⟩
    cases w
    rw [q5]
    exact fin1 p hp e h' O' q1 q3 q4 q7
  · unfold wp_J1_remove_b12 wp_J1_remove_b25
    exact ⟨fun _ => fin0 (fun p hp e => absurd rfl (ne p hp e).1), (fun a w => by cases w)⟩
theorem s_remove_2 {h : Hp} {m n C Q : Nat} {O : List Nat} {c v : Nat} {K : Int32 → Hp → Prop} (k : MI h m n O) (hl : O.length ≤ 1464) (B : Bud h n O (C + 2928) (Q + 24888))
    (fin1 : ∀ p ∈ O, keyI h p = it h 23 c → valI h p = it h 23 v → ∀ h' O', MI h' m n O' → Mst h h' m O O' → O'.map (pr h') = (flt p O).map (pr h) → Bud h' n O' C Q → K 1 h')
    (fin0 : (∀ p ∈ O, keyI h p = it h 23 c → valI h p ≠ it h 23 v) → K 0 h) : wp_J1_remove_2 h (some m) (some c) (some v) K := by
  obtain ⟨bn, kb⟩ := id k.1
  unfold wp_J1_remove_2
  refine s_hash (fun _ => ⟨m, rfl, s_removeNode (v := v) k kb hl rfl (fun w => by cases w) (fun _ => B) (fun _ => rfl) (fun p hp e ev h' O' i L' _ _ q1 _ q3 q4 q5 _ q7 _ => ?_) (fun ne _ => ?_)⟩)
  · unfold wp_J1_remove_2_b12 wp_J1_remove_2_b20
    refine ⟨(fun w => by cases w), fun a w => ⟨Or.inr rfl, ?_⟩⟩
    exact fin1 p hp e (ev.resolve_left (by decide)) h' O' q1 q3 q4 q7
  · unfold wp_J1_remove_2_b12 wp_J1_remove_2_b20
    exact ⟨fun _ => ⟨Or.inl rfl, fin0 (fun p hp e => (ne p hp e).2)⟩, (fun a w => by cases w)⟩
