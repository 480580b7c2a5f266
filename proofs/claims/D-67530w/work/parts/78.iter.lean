/-! ENTRY SETS AND THEIR ITERATORS, seen from all three maps -/
set_option maxRecDepth 100000
/-- a view of the map j, new since h, is written into it -/
theorem rs_view {h hN : Hp} {xo : Nat} {m n : Nat → Nat} {O : Nat → List Nat} {A : AS} {C Q s j f a : Nat} (R : RS h xo m n O A (C + 1) (Q + s)) (hj : j < 3) (N : Nws h hN) (c1 : nc hN ≤ nc h + 1) (c2 : ns hN ≤ ns h + s) (hf : f = 11 ∨ f = 14) (V : VW (wR hN f (m j) (some a)) (m j)) : RS (wR hN f (m j) (some a)) xo m n O A C Q ∧ Fr h (wR hN f (m j) (some a)) := by
  have RN : RS hN xo m n O A C Q := R.nws N (by omega) (by omega)
  obtain ⟨M, V0, eA⟩ := RN.2.2.1 j hj
  obtain ⟨M', P, S⟩ := M.view (v := some a) hf
  have R' := RN.step (A' := A j) hj S M' V (by rw [← eA]; exact List.map_congr_left P) (RN.bud hj)
  rw [ufn_self, ufn_self, ufn_self] at R'
  exact ⟨R', N.fr.trans (S.fr M)⟩
/-- an entry set of the map -/
def ESV (h : Hp) (m e : Nat) : Prop := (kd h m = 2 ∧ kd h e = 9 ∧ rf h 28 e = some m) ∨ (kd h m = 3 ∧ kd h e = 10 ∧ rf h 30 e = some m ∧ it h 29 e = 0)
theorem rs_es {h : Hp} {xo : Nat} {m n : Nat → Nat} {O : Nat → List Nat} {A : AS} {C Q j : Nat} {G : Option Nat → Hp → Prop} (R : RS h xo m n O A (C + 1) (Q + 2)) (hj : j < 3) (fin : ∀ e h', RS h' xo m n O A C Q → Fr h h' → ESV h' (m j) e → G (some e) h') :
    (kd h (m j) = 2 ∧ wp_J1_entrySet h (some (m j)) (fun r h' => Ex h h' → G r h')) ∨ (kd h (m j) = 3 ∧ wp_J2_entrySet h (some (m j)) (fun r h' => Ex h h' → G r h')) := by
  obtain ⟨M, V, eA⟩ := R.2.2.1 j hj
  have ne : ∀ b a, kd h a = 0 → kd h b ≠ 0 → b ≠ a := fun b a ha hb w => hb (w ▸ ha)
  rcases M.kdm with w | w
  · refine Or.inl ⟨w, ?_⟩
    unfold wp_J1_entrySet
    refine ⟨m j, rfl, fun q => ⟨R.rm (by omega) (by omega), fun a ha h1 e1 => ?_⟩, fun e he => ?_⟩
    · subst e1
      unfold wp_J22_init wp_J12_init wp_J11_init
      refine ⟨a, rfl, fun h2 e2 => ⟨a, rfl, a, rfl, fun _ _ _ h3 e3 _ => ?_⟩⟩
      have N : Nws h h2 := by
        rw [e2]
        exact ((Nws.refl h).nw 9 0 ha).chg ((Chg.refl (fun _ b => b = a) _).wR (some (m j)) rfl) ha
      have ma := ne (m j) a ha (by omega)
      have k2 : kd h2 a = 9 := by rw [e2, kd_wR, kd_nw, if_pos rfl]
      have r2 : rf h2 28 a = some (m j) := by rw [e2, rf_wR, if_pos ⟨rfl, rfl⟩]
      have km : kd h2 (m j) = 2 := by rw [(N.1.1 (m j) (by omega)).1]; exact w
      have V2 : VW h2 (m j) := V.nws M.kdm N
      have V3 : VW (wR h2 14 (m j) (some a)) (m j) := by
        refine ⟨fun e he => ?_, fun e he q => ?_⟩
        · rw [rf_wR, if_pos ⟨rfl, rfl⟩] at he
          cases he
          exact ⟨fun _ => ⟨k2, by rw [rf_wR, if_neg (by omega)]; exact r2⟩, fun q => by rw [kd_wR, km] at q; cases q⟩
        · rw [rf_wR, if_neg (by omega)] at he
          obtain ⟨z1, z2⟩ := V2.2 e he q
          exact ⟨z1, by rw [rf_wR, if_neg (by omega)]; exact z2⟩
      obtain ⟨R', f'⟩ := rs_view (C := C) (Q := Q) (s := 2) (a := a) R hj N (by rw [e2]; exact Nat.le_refl _) (by rw [e2, ns_wR, ns_nw]; show _ ≤ _; unfold szK; simp [cG]) (Or.inr rfl) V3
      rw [e3]
      exact fin a _ R' f' (Or.inl ⟨km, k2, by rw [rf_wR, if_neg (by omega)]; exact r2⟩)
    · unfold wp_J1_entrySet_b26
      rw [he]
      intro _
      exact fin e h (R.mono (by omega) (by omega)) (Fr.refl h) (Or.inl ⟨w, (V.1 e he).1 w⟩)
  · refine Or.inr ⟨w, ?_⟩
    unfold wp_J2_entrySet wp_J2_sequencedEntrySet
    refine ⟨m j, rfl, m j, rfl, fun q => ⟨R.rm (by omega) (by omega), fun a ha h1 e1 => ?_⟩, fun e he => ⟨fun a ha => ?_, ?_⟩⟩
    · subst e1
      unfold wp_J23_init wp_J12_init wp_J11_init
      refine ⟨a, rfl, fun h2 e2 => ⟨a, rfl, a, rfl, fun _ _ => ⟨Or.inl rfl, fun h3 e3 _ h4 e4 _ _ => ?_⟩⟩⟩
      have N : Nws h h3 := by
        rw [e3, e2]
        exact ((Nws.refl h).nw 10 0 ha).chg (((Chg.refl (fun _ b => b = a) _).wR (some (m j)) rfl).wI 0 rfl) ha
      have k2 : kd h3 a = 10 := by rw [e3, e2, kd_wI, kd_wR, kd_nw, if_pos rfl]
      have r2 : rf h3 30 a = some (m j) := by rw [e3, e2, rf_wI, rf_wR, if_pos ⟨rfl, rfl⟩]
      have i2 : it h3 29 a = 0 := by rw [e3, it_wI, if_pos ⟨rfl, rfl⟩]
      have km : kd h3 (m j) = 3 := by rw [(N.1.1 (m j) (by omega)).1]; exact w
      have V3 : VW (wR h3 14 (m j) (some a)) (m j) := by
        refine ⟨fun e he => ?_, fun e he q => by rw [kd_wR, km] at q; cases q⟩
        rw [rf_wR, if_pos ⟨rfl, rfl⟩] at he
        cases he
        exact ⟨(fun q => by rw [kd_wR, km] at q; cases q), fun _ => ⟨k2, by rw [rf_wR, if_neg (by omega)]; exact r2, i2⟩⟩
      obtain ⟨R', f'⟩ := rs_view (C := C) (Q := Q) (s := 2) (a := a) R hj N (by rw [e3, e2]; exact Nat.le_refl _) (by rw [e3, e2, ns_wI, ns_wR, ns_nw]; show _ ≤ _; unfold szK; simp [cG]) (Or.inr rfl) V3
      rw [e4]
      exact fin a _ R' f' (Or.inr ⟨km, k2, by rw [rf_wR, if_neg (by omega)]; exact r2, i2⟩)
    · rw [he] at ha; cases ha
      rw [((V.1 e he).2 w).1]; decide
    · rw [he]
      intro _ _
      exact fin e h (R.mono (by omega) (by omega)) (Fr.refl h) (Or.inr ⟨w, (V.1 e he).2 w⟩)
/-- an iterator over the entries, at its start -/
theorem rs_it {h : Hp} {xo : Nat} {m n : Nat → Nat} {O : Nat → List Nat} {A : AS} {C Q j e : Nat} {G : Option Nat → Hp → Prop} (R : RS h xo m n O A (C + 1) (Q + 5)) (hj : j < 3) (sz : (A j).length ≤ 1464) (V : ESV h (m j) e) (fin : ∀ a h' L, RS h' xo m n O A C Q → Fr h h' → Itr h' a (m j) (n j) (O j) L → L.Perm (O j) → (kd h' (m j) = 3 → L = O j) → G (some a) h') :
    (∃ a151, some e = some a151 ∧ (kd h a151 = 8 ∧ (wp_J13_iterator h (some e) (fun r154 h155 => Ex h h155 → G r154 h155)))) ∨ (∃ a158, some e = some a158 ∧ (kd h a158 = 9 ∧ (wp_J22_iterator h (some e) (fun r161 h162 => Ex h h162 → G r161 h162)))) ∨ (∃ a165, some e = some a165 ∧ (kd h a165 = 10 ∧ (wp_J23_iterator h (some e) (fun r168 h169 => Ex h h169 → G r168 h169)))) := by
  have ne : ∀ b a, kd h a = 0 → kd h b ≠ 0 → b ≠ a := fun b a ha hb w => hb (w ▸ ha)
  rcases V with ⟨w, v1, v2⟩ | ⟨w, v1, v2, v3⟩
  · refine Or.inr (Or.inl ⟨e, rfl, v1, ?_⟩)
    unfold wp_J22_iterator
    refine ⟨R.rm (by omega) (by omega), fun a ha h1 e1 => ⟨e, rfl, ?_⟩⟩
    have N : Nws h h1 := by rw [e1]; exact (Nws.refl h).nw 12 0 ha
    have R1 : RS h1 xo m n O A C Q := R.nws N (by rw [e1, nc_nw]; omega) (by rw [e1, ns_nw]; show _ + 5 + _ ≤ _; omega)
    have ka : kd h1 a = 12 := by rw [e1, kd_nw, if_pos rfl]
    rw [(N.2 28 e (by omega)).1, v2]
    obtain ⟨M, V1, eA⟩ := R1.2.2.1 j hj
    obtain ⟨bn, kb⟩ := id M.1
    unfold wp_J16_init
    refine ⟨a, rfl, s_J15_init (Or.inr ka) M kb (by rw [R1.len hj]; exact sz) (fun h2 c H _ _ _ => ?_)⟩
    have R2 := R1.itc c (by omega)
    have km : kd h1 (m j) = 2 := by rw [(N.1.1 (m j) (by omega)).1]; exact w
    refine fin a h2 (nodes (n j) bn) R2 (N.fr.trans (c.fr (by omega))) (Or.inl ⟨by rw [c.1]; exact km, by rw [c.1]; exact ka, kb.2.2.1.nodup_iff.mp kb.2.1, fun y hy => kb.2.2.1.mem_iff.mpr hy, bn, kb.sam (M.off c (by omega)), H⟩) kb.2.2.1.symm (fun z => by rw [c.1] at z; omega)
  · refine Or.inr (Or.inr ⟨e, rfl, v1, ?_⟩)
    unfold wp_J23_iterator
    refine ⟨R.rm (by omega) (by omega), fun a ha h1 e1 => ⟨e, rfl, fun _ => ?_⟩⟩
    have N : Nws h h1 := by rw [e1]; exact (Nws.refl h).nw 13 0 ha
    have R1 : RS h1 xo m n O A C Q := R.nws N (by rw [e1, nc_nw]; omega) (by rw [e1, ns_nw]; show _ + 5 + _ ≤ _; omega)
    have ka : kd h1 a = 13 := by rw [e1, kd_nw, if_pos rfl]
    rw [(N.2 30 e (by omega)).1, v2, (N.2 29 e (by omega)).2, v3]
    obtain ⟨M, V1, eA⟩ := R1.2.2.1 j hj
    obtain ⟨bn, kb⟩ := id M.1
    have km : kd h1 (m j) = 3 := by rw [(N.1.1 (m j) (by omega)).1]; exact w
    have d := kb.2.2.2.2.2.1 km
    have ma : m j ≠ a := fun z => by rw [z] at km; omega
    unfold wp_J19_init wp_J18_init wp_J18_init_b30
    refine ⟨a, rfl, a, rfl, fun h2 e2 => ⟨Or.inl rfl, fun h3 e3 => ⟨fun _ => ⟨m j, rfl, a, rfl, fun h4 e4 => ⟨m j, rfl, a, rfl, fun h5 e5 h6 e6 _ _ _ => ?_⟩⟩, fun z => absurd rfl z⟩⟩⟩
    have c : Chg (fun _ b => b = a) h1 h6 := by
      rw [e6, e5, e4, e3, e2]
      exact ((((((Chg.refl (fun _ b => b = a) h1).wR _ rfl).wI _ rfl).wR _ rfl).wI _ rfl).wR _ rfl)
    have R2 := R1.itc c (by omega)
    have H : LI h6 a (m j) (O j) (O j) := by
      refine ⟨by rw [c.1]; exact ka, ?_, ?_, ?_, ?_, [], rfl⟩
      · rw [e6, e5, e4, e3, e2, rf_wR, if_neg (by omega), rf_wI, rf_wR, if_neg (by omega), rf_wI, rf_wR, if_pos ⟨rfl, rfl⟩]
      · rw [e6, e5, e4, e3, it_wR, it_wI, if_neg (by omega), it_wR, it_wI, if_pos ⟨rfl, rfl⟩]
      · rw [c.it (f := 16) ma, e6, e5, it_wR, it_wI, if_pos ⟨rfl, rfl⟩, e4, e3, e2, it_wR, it_wI, if_neg (by omega), it_wR]
      · rw [e6, e5, e4, rf_wR, if_neg (by omega), rf_wI, rf_wR, if_pos ⟨rfl, rfl⟩, e3, e2, rf_wI, rf_wR, if_neg (by omega)]
        exact d.1
    exact fin a h6 (O j) R2 (N.fr.trans (c.fr (by omega))) (Or.inr ⟨by rw [c.1]; exact km, H⟩) (List.Perm.refl _) (fun _ => rfl)
