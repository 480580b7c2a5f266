/-! HASALL -/
set_option maxRecDepth 100000
theorem HI.fra {h h' : Hp} {a m n : Nat} {bn : Nat → List Nat} {L : List Nat} (k : HI h a m n bn L) (ka : kd h' a = kd h a) (fa : ∀ f, rf h' f a = rf h f a ∧ it h' f a = it h f a) (e16 : it h' 16 m = it h 16 m) : HI h' a m n bn L := by
  obtain ⟨z1, z2, z3, z4, idx, Y, y1, y2⟩ := k
  exact ⟨by rw [ka]; exact z1, by rw [(fa 35).1]; exact z2, by rw [(fa 33).2, e16]; exact z3, by rw [(fa 31).1]; exact z4, idx, Y, by rw [(fa 34).2]; exact y1, y2⟩
theorem ha_loop {h0 : Hp} {xo : Nat} {m n : Nat → Nat} {O : Nat → List Nat} {A : AS} {C Q j a : Nat} {bn : Nat → List Nat} {K : Int32 → Hp → Prop} (hj : j < 3) :
    ∀ (L : List Nat) (P : List (Int32 × Int32)) (f : Nat) (h : Hp), L.length + 1 ≤ f → RS h xo m n O A C Q → Fr h0 h → kd h a = 11 → MB h (m 0) (n 0) bn (O 0) → HI h a (m 0) (n 0) bn L → (∀ y ∈ L, y ∈ O 0) → L.map (pr h) = P → (∀ h', RS h' xo m n O A C Q → Fr h0 h' → (∀ p ∈ P, aget (A j) p.1 ≠ none) → K 1 h') → (∀ h', RS h' xo m n O A C Q → Fr h0 h' → (∃ p ∈ P, aget (A j) p.1 = none) → K 0 h') → wp_X0_hasAll_b10 K f h (some (m j)) (some a)
  | L, P, 0, h, hf, _, _, _, _, _, _, _, _, _ => by omega
  | L, P, f + 1, h, hf, R, F, ka, kb, I, hs, eP, f1, f0 => by
    unfold wp_X0_hasAll_b10
    refine Or.inl ⟨a, rfl, by rw [ka]; decide, s_J15_hasNext I (fun e _ => ?_) (fun p L' e _ => ?_)⟩
    · unfold wp_X0_hasAll_b16
      refine ⟨fun _ => f1 h R F (fun p hp => ?_), fun w => absurd rfl w⟩
      rw [← eP, e] at hp
      cases hp
    · subst e
      have pO := hs p List.mem_cons_self
      unfold wp_X0_hasAll_b16 wp_J17_next
      refine ⟨(fun w => by cases w), fun _ => Or.inl ⟨a, rfl, ka, a, rfl, s_J15_nextNode I kb (fun h1 c I1 _ _ => ⟨p, rfl, fun _ => ?_⟩)⟩⟩
      have R1 := R.itc c (by omega)
      obtain ⟨M, V, eA⟩ := R.2.2.1 0 (by omega)
      obtain ⟨M1, V1, eA1⟩ := R1.2.2.1 0 (by omega)
      have S := M.off c (by omega)
      have PP := (M.sam S).2.1
      obtain ⟨b, c0, e1, e2, e3, e4, kb0, kc0⟩ := (M1.ok p pO).keyv
      rw [PP p pO] at e2
      have pP : pr h p ∈ P := by rw [← eP]; exact List.mem_map.mpr ⟨p, List.mem_cons_self, rfl⟩
      obtain ⟨Mj, Vj, eAj⟩ := R1.2.2.1 j hj
      unfold wp_X0_hasAll_b25
      rw [e1]
      refine ⟨(fun z ez => by cases ez; rcases kb0 with w | w <;> rw [w] <;> decide), m j, rfl, s_containsKey Mj (fun y hy ey _ => ?_) (fun ne _ => ?_)⟩
      · unfold wp_X0_hasAll_b34
        refine ⟨fun _ => ?_, (fun w => by cases w)⟩
        have ag := pr_get1 Mj hy ey
        rw [eAj, e2] at ag
        refine ha_loop hj L' (L'.map (pr h)) f h1 (by simpa using hf) R1 (F.trans (c.fr (by omega))) (by rw [c.1]; exact ka) (kb.sam S) I1 (fun y hy => hs y (List.mem_cons_of_mem _ hy)) (List.map_congr_left (fun y hy => PP y (hs y (List.mem_cons_of_mem _ hy)))) (fun h' R' F' q => f1 h' R' F' (fun z hz => ?_)) (fun h' R' F' q => f0 h' R' F' ?_)
        · rw [← eP] at hz
          rcases List.mem_cons.mp hz with w | w
          · rw [w, ag]; exact fun u => by cases u
          · exact q z w
        · obtain ⟨z, hz, q⟩ := q
          exact ⟨z, by rw [← eP]; exact List.mem_cons_of_mem _ hz, q⟩
      · unfold wp_X0_hasAll_b34
        refine ⟨fun w => absurd rfl w, fun _ => f0 h1 R1 (F.trans (c.fr (by omega))) ⟨_, pP, ?_⟩⟩
        rw [← e2, ← eAj]
        exact pr_get0 ne
theorem rs_hasAll {h : Hp} {xo : Nat} {m n : Nat → Nat} {O : Nat → List Nat} {A : AS} {C Q j : Nat} {K : Int32 → Hp → Prop} (R : RS h xo m n O A (C + 2) (Q + 7)) (hj : j < 3) (sz : ∀ j, j < 3 → (A j).length ≤ 1464) (f1 : ∀ h', RS h' xo m n O A C Q → Fr h h' → (∀ p ∈ A 0, aget (A j) p.1 ≠ none) → K 1 h') (f0 : ∀ h', RS h' xo m n O A C Q → Fr h h' → (∃ p ∈ A 0, aget (A j) p.1 = none) → K 0 h') : wp_X0_hasAll h (some (m j)) (some (m 0)) K := by
  have go : ∀ e h1, RS h1 xo m n O A (C + 1) (Q + 5) → Fr h h1 → kd h1 e = 8 → rf h1 27 e = some (m 0) → wp_J13_iterator h1 (some e) (fun r h' => Ex h1 h' → wp_X0_hasAll_b9 K h' (some (m j)) r) := fun e h1 R1 F1 ke re => by
    unfold wp_J13_iterator
    refine ⟨R1.rm (by omega) (by omega), fun a ha h2 e2 => ⟨e, rfl, ?_⟩⟩
    have N : Nws h1 h2 := by rw [e2]; exact (Nws.refl h1).nw 11 0 ha
    have R2 : RS h2 xo m n O A C Q := R1.nws N (by rw [e2, nc_nw]; omega) (by rw [e2, ns_nw]; show _ + 5 + _ ≤ _; omega)
    have ka : kd h2 a = 11 := by rw [e2, kd_nw, if_pos rfl]
    rw [(N.2 27 e (by omega)).1, re]
    obtain ⟨M, V, eA⟩ := R2.2.2.1 0 (by omega)
    obtain ⟨bn, kb⟩ := id M.1
    unfold wp_J17_init
    refine ⟨a, rfl, s_J15_init (Or.inl ka) M kb (by rw [R2.len (by omega)]; exact sz 0 (by omega)) (fun h3 c H _ _ _ => ?_)⟩
    have S := M.off c (by omega)
    have R3 := R2.itc c (by omega)
    have PP := (M.sam S).2.1
    have pP : ((nodes (n 0) bn).map (pr h3)).Perm (A 0) := by
      rw [← (R3.2.2.1 0 (by omega)).2.2]
      exact (kb.2.2.1.map (pr h3)).symm
    unfold wp_X0_hasAll_b9
    refine ⟨(nodes (n 0) bn).length + 1, ha_loop (h0 := h) hj (nodes (n 0) bn) _ _ h3 (Nat.le_refl _) R3 (F1.trans (N.fr.trans (c.fr (by omega)))) (by rw [c.1]; exact ka) (kb.sam S) H (fun y hy => kb.2.2.1.mem_iff.mpr hy) rfl (fun h' R' F' q => f1 h' R' F' (fun p hp => q p (pP.mem_iff.mpr hp))) (fun h' R' F' q => f0 h' R' F' ?_)⟩
    obtain ⟨p, hp, q⟩ := q
    exact ⟨p, pP.mem_iff.mp hp, q⟩
  obtain ⟨M, V, eA⟩ := R.2.2.1 0 (by omega)
  have k2 : kd h (m 0) = 2 := R.2.1.1
  have ne : ∀ b a, kd h a = 0 → kd h b ≠ 0 → b ≠ a := fun b a ha hb w => hb (w ▸ ha)
  unfold wp_X0_hasAll
  refine ⟨m 0, rfl, k2, ?_⟩
  unfold wp_J1_keySet
  refine ⟨m 0, rfl, fun q => ⟨R.rm (by omega) (by omega), fun a ha h1 e1 => ?_⟩, fun e he => ?_⟩
  · unfold wp_J13_init wp_J12_init wp_J11_init
    refine ⟨a, rfl, fun h2 e2 => ⟨a, rfl, a, rfl, fun _ _ _ h3 e3 _ => ?_⟩⟩
    rw [e1] at e2
    have N : Nws h h2 := by
      rw [e2]
      exact ((Nws.refl h).nw 8 0 ha).chg ((Chg.refl (fun _ b => b = a) _).wR (some (m 0)) rfl) ha
    have ks : kd h2 a = 8 := by rw [e2, kd_wR, kd_nw, if_pos rfl]
    have r2 : rf h2 27 a = some (m 0) := by rw [e2, rf_wR, if_pos ⟨rfl, rfl⟩]
    have km : kd h2 (m 0) = 2 := by rw [(N.1.1 (m 0) (by omega)).1]; exact k2
    have V2 : VW h2 (m 0) := V.nws M.kdm N
    have V3 : VW (wR h2 11 (m 0) (some a)) (m 0) := by
      refine ⟨fun e he => ?_, fun e he q => ?_⟩
      · rw [rf_wR, if_neg (by omega)] at he
        obtain ⟨z1, z2⟩ := V2.1 e he
        refine ⟨fun q => ⟨(z1 q).1, by rw [rf_wR, if_neg (by omega)]; exact (z1 q).2⟩, (fun q => by rw [kd_wR, km] at q; cases q)⟩
      · rw [rf_wR, if_pos ⟨rfl, rfl⟩] at he
        cases he
        exact ⟨ks, by rw [rf_wR, if_neg (by omega)]; exact r2⟩
    obtain ⟨R', f'⟩ := rs_view (C := C + 1) (Q := Q + 5) (s := 2) (a := a) R (by omega) N (by rw [e2]; exact Nat.le_refl _) (by rw [e2, ns_wR, ns_nw]; show _ ≤ _; unfold szK; simp [cG]) (Or.inl rfl) V3
    rw [← e3] at R' f'
    refine Or.inl ⟨a, rfl, by rw [e3]; exact ks, go a h3 R' f' (by rw [e3]; exact ks) (by rw [e3, rf_wR, if_neg (by omega)]; exact r2)⟩
  · unfold wp_J1_keySet_b23
    rw [he]
    intro _
    obtain ⟨z1, z2⟩ := V.2 e he k2
    exact Or.inl ⟨e, rfl, z1, go e h (R.mono (by omega) (by omega)) (Fr.refl h) z1 z2⟩
