/-! RAISE, SWEEP -/
set_option maxRecDepth 100000
theorem Itr.fra {h h' : Hp} {a m n : Nat} {O L : List Nat} (k : Itr h a m n O L) (km : kd h' m = kd h m) (ka : kd h' a = kd h a) (fa : ∀ f, rf h' f a = rf h f a ∧ it h' f a = it h f a) (e16 : it h' 16 m = it h 16 m) (mb : ∀ bn, MB h m n bn O → MB h' m n bn O) : Itr h' a m n O L := by
  rcases k with ⟨k0, k1, k2, k3, bn, kb, z1, z2, z3, z4, z5⟩ | ⟨k0, z1, z2, z3, z4, z5, z6⟩
  · refine Or.inl ⟨by rw [km]; exact k0, by rw [ka]; exact k1, k2, k3, bn, mb bn kb, by rw [ka]; exact z1, by rw [(fa 35).1]; exact z2, by rw [(fa 33).2, e16]; exact z3, by rw [(fa 31).1]; exact z4, ?_⟩
    obtain ⟨idx, Y, y1, y2⟩ := z5
    exact ⟨idx, Y, by rw [(fa 34).2]; exact y1, y2⟩
  · exact Or.inr ⟨by rw [km]; exact k0, by rw [ka]; exact z1, by rw [(fa 40).1]; exact z2, by rw [(fa 39).2]; exact z3, by rw [(fa 38).2, e16]; exact z4, by rw [(fa 36).1]; exact z5, z6⟩
theorem Itr.nws {h h' : Hp} {a m n : Nat} {O L : List Nat} (k : Itr h a m n O L) (M : MI h m n O) (s : Nws h h') : Itr h' a m n O L := by
  have ka := k.knd
  have km := M.kdm
  exact k.fra (s.1.1 m (by omega)).1 (s.1.1 a (by omega)).1 (fun f => s.2 f a (by omega)) (s.2 16 m (by omega)).2 (fun bn kb => kb.sam (M.nws s))
theorem MB.val {h : Hp} {m n a v : Nat} {bn : Nat → List Nat} {O : List Nat} (k : MB h m n bn O) (kv : kd h v = 4 ∨ kd h v = 60) : MB (wR h 2 a (some v)) m n bn O := by
  obtain ⟨k1, k2, k3, k4, k5, k6, k7, k8⟩ := k
  have g : ∀ f b, f ≠ 2 → rf (wR h 2 a (some v)) f b = rf h f b := fun f b hf => by rw [rf_wR, if_neg (fun w => hf w.1)]
  refine ⟨k1, k2, k3, k4, ?_, fun w => (k6 w).fra (g 19 m (by decide)) (g 20 m (by decide)) (fun b _ => g 5 b (by decide)) (fun b _ => g 4 b (by decide)), k7, k8⟩
  rcases k5 with w | ⟨e, t, w1, w2, w3, w4⟩
  · exact Or.inl ⟨w.1, by rw [g 13 m (by decide)]; exact w.2⟩
  · exact Or.inr ⟨e, t, w1, w2, by rw [g 13 m (by decide)]; exact w3, w4.1, w4.2.1, fun i hi => ⟨by rw [g _ t (by omega)]; exact (w4.2.2 i hi).1, bin_val (w4.2.2 i hi).2 kv⟩⟩
theorem Bud.chg {h h' : Hp} {n C Q : Nat} {O : List Nat} {P : Nat → Nat → Prop} (B : Bud h n O C Q) (c : Chg P h h') : Bud h' n O C Q := by
  unfold Bud at *
  rw [c.2.2.1, c.2.2.2.1, lc_frame (h := h) (h' := h') (fun y _ => c.1 y)]
  exact B
theorem raise_loop {h0 : Hp} {xo : Nat} {m n : Nat → Nat} {O : Nat → List Nat} {A : AS} {C Q j a : Nat} {d : Int32} {g : Nat → Int32 × Int32} {K : Int32 → Hp → Prop} (hj : j < 3) (fin : ∀ h', RS h' xo m n O (ufn A j ((O j).map (fun y => ((g y).1, (g y).2 + d)))) C Q → Fr h0 h' → K (nI (O j).length) h') :
    ∀ (L : List Nat) (f : Nat) (h : Hp) (Ac : List (Int32 × Int32)), L.length + 1 ≤ f → RS h xo m n O (ufn A j Ac) (C + L.length) (Q + L.length) → Fr h0 h → Itr h a (m j) (n j) (O j) L → (∀ y ∈ O j, pr h y = if y ∈ L then g y else ((g y).1, (g y).2 + d)) → wp_X0_raise_b23 K f h d (some (m j)) (some a)
  | L, 0, h, Ac, hf, _, _, _, _ => by omega
  | L, f + 1, h, Ac, hf, R, F, I, H => by
    unfold wp_X0_raise_b23
    refine it_has (G := fun r h' => wp_X0_raise_b30 (wp_X0_raise_b23 K f) K h' d (some (m j)) (some a) r) I (fun e => ?_) (fun p L' e => ?_)
    · unfold wp_X0_raise_b30 wp_J1_size wp_X0_raise_b78
      refine ⟨fun _ => ⟨m j, rfl, m j, rfl, fun _ => ?_⟩, fun w => absurd rfl w⟩
      obtain ⟨M, V, eA⟩ := R.2.2.1 j hj
      rw [ufn_eq] at eA
      rw [M.2.1]
      refine fin h ?_ F
      have : Ac = (O j).map (fun y => ((g y).1, (g y).2 + d)) := by
        rw [← eA]
        refine List.map_congr_left (fun y hy => ?_)
        rw [H y hy, e, if_neg (fun z => by cases z)]
      rw [← this]
      exact R.mono (by omega) (by omega)
    · subst e
      unfold wp_X0_raise_b30
      refine ⟨(fun w => by cases w), fun _ => rs_next (G := fun r h' => wp_X0_raise_b40 (wp_X0_raise_b23 K f) K h' d (some (m j)) (some a) r) R hj I (fun h1 R1 F1 I1 _ pO pL PP ok kp => ?_)⟩
      obtain ⟨b, c, e1, e2, e3, e4, -, -⟩ := ok.keyv
      have gp : pr h1 p = g p := by rw [PP p pO, H p pO, if_pos List.mem_cons_self]
      unfold wp_X0_raise_b40 wp_X0_raise_b54 wp_J6_getValue wp_J5_intValue wp_J6_setValue wp_X0_raise_b70
      refine ⟨(fun z ez => by cases ez; exact kp), p, rfl, p, rfl, fun _ => ?_⟩
      rw [e3]
      have lc1 : (p :: L').length = L'.length + 1 := rfl
      rw [lc1] at R1
      refine ⟨c, rfl, c, rfl, fun _ => s_valueOf (R1.rm (by omega) (by omega)) (fun v h2 N2 kv ev c1 c2 _ => ⟨p, rfl, p, rfl, fun h3 e3 _ => ?_⟩)⟩
      obtain ⟨M1, V1, eA1⟩ := R1.2.2.1 j hj
      have R2 : RS h2 xo m n O (ufn A j Ac) (C + L'.length) (Q + L'.length) := R1.nws N2 (by omega) (by omega)
      obtain ⟨M2, V2, eA2⟩ := R2.2.2.1 j hj
      obtain ⟨M3, S3, P3⟩ := M2.val pO kv
      rw [← e3] at M3 S3 P3
      have I2 := I1.nws M1 N2
      have ap : a ≠ p := fun w => by
        have := I1.knd
        rw [w] at this
        have : kd h1 p = 5 ∨ kd h1 p = 6 ∨ kd h1 p = 7 := by simpa using kp
        omega
      have I3 : Itr h3 a (m j) (n j) (O j) L' := by
        rw [e3]
        exact I2.fra rfl rfl (fun f => ⟨by rw [rf_wR, if_neg (fun z => ap z.2)], rfl⟩) rfl (fun bn kb => kb.val kv)
      have P2 : ∀ y ∈ O j, pr h2 y = pr h1 y := (M1.sam (M1.nws N2)).2.1
      obtain ⟨R3, F3⟩ := R2.mst (A' := (O j).map (pr h3)) hj S3 M3 rfl (by rw [e3]; exact R2.bud hj)
      rw [ufn_self, ufn_self, ufn_ufn] at R3
      refine raise_loop hj fin L' f h3 _ (by simpa using hf) R3 (F.trans (F1.trans (N2.fr.trans F3))) I3 (fun y hy => ?_)
      rw [P3 y hy]
      by_cases q : y = p
      · rw [if_pos q, q, if_neg pL]
        have k1 : keyI h2 p = (pr h2 p).1 := rfl
        rw [k1, P2 p pO, gp, ev, e4, gp]
      · rw [if_neg q, P2 y hy, PP y hy, H y hy]
        by_cases z : y ∈ L'
        · rw [if_pos z, if_pos (List.mem_cons_of_mem _ z)]
        · rw [if_neg z, if_neg (fun w => by
            rcases List.mem_cons.mp w with w | w
            · exact q w
            · exact z w)]
theorem o_raise {h : Hp} {xo : Nat} {m n : Nat → Nat} {O : Nat → List Nat} {A : AS} {C Q : Nat} {i d : Int32} {K : Int32 → Hp → Prop} (R : RS h xo m n O A (C + 1466) (Q + 1471)) (sz : ∀ j, j < 3 → (A j).length ≤ 1464) (fin : ∀ h', RS h' xo m n O (sraise A i d).1 C Q → Fr h h' → K (sraise A i d).2 h') : wp_X0_raise h (some xo) i d K := by
  unfold wp_X0_raise
  refine ⟨xo, rfl, s_X0_map R (fun j hj e _ => ⟨(fun q => by cases q), fun a q => ?_⟩) (fun e _ => ⟨fun _ => ?_, (fun a q => by cases q)⟩)⟩
  · cases q
    have es : sraise A i d = (ufn A j ((A j).map (fun p => (p.1, p.2 + d))), nI (A j).length) := by unfold sraise; rw [e]
    rw [es] at fin
    refine rs_es (C := C + 1465) (Q := Q + 1469) (G := fun r h' => wp_X0_raise_b16 K h' d (some (m j)) r) R hj (fun e h1 R1 F1 V1 => ?_)
    unfold wp_X0_raise_b16
    refine rs_it (C := C + 1464) (Q := Q + 1464) (G := fun r h' => wp_X0_raise_b21 K h' d (some (m j)) r) R1 hj (sz j hj) V1 (fun a h2 L R2 F2 I2 pL _ => ?_)
    unfold wp_X0_raise_b21
    have l1 : L.length ≤ 1464 := by rw [pL.length_eq, R2.len hj]; exact sz j hj
    have eA := (R2.2.2.1 j hj).2.2
    refine ⟨L.length + 1, raise_loop (h0 := h) (g := pr h2) (A := A) (C := C) (Q := Q) hj (fun h' R' F' => ?_) L _ h2 (A j) (Nat.le_refl _) (by rw [ufn_self]; exact R2.mono (by omega) (by omega)) (F1.trans F2) I2 (fun y hy => by rw [if_pos (pL.mem_iff.mpr hy)])⟩
    have e2 : (O j).map (fun y => ((pr h2 y).1, (pr h2 y).2 + d)) = (A j).map (fun p => (p.1, p.2 + d)) := by
      rw [← eA, List.map_map]; rfl
    rw [e2] at R'
    rw [R2.len hj]
    exact fin h' R' F'
  · have es : sraise A i d = (A, -1) := by unfold sraise; rw [e]
    rw [es] at fin
    exact fin h (R.mono (by omega) (by omega)) (Fr.refl h)
theorem Itr.last {h : Hp} {a m n : Nat} {O L : List Nat} (k : Itr h a m n O L) : kd h m = 3 → ∃ X, O = X ++ L := fun w => by
  rcases k with ⟨k0, -⟩ | ⟨-, k2⟩
  · omega
  · exact k2.2.2.2.2.2
theorem rs_remove {h : Hp} {xo : Nat} {m n : Nat → Nat} {O : Nat → List Nat} {A : AS} {C Q j a p : Nat} {L : List Nat} {G : Hp → Prop} (R : RS h xo m n O A C Q) (hj : j < 3) (sz : (O j).length ≤ 1464) (I : Itr h a (m j) (n j) (O j) L) (cur : Cur h a (m j) p) (pO : p ∈ O j) (pL : p ∉ L) (last : kd h (m j) = 3 → ∃ X, O j = X ++ p :: L)
    (fin : ∀ h', RS h' xo m n (ufn O j (flt p (O j))) (ufn A j ((flt p (O j)).map (pr h))) C Q → Fr h h' → Itr h' a (m j) (n j) (flt p (O j)) L → (flt p (O j)).map (pr h') = (flt p (O j)).map (pr h) → G h') :
    (∃ a186, some a = some a186 ∧ (kd h a186 ∈ [11, 12] ∧ (wp_J15_remove h (some a) (fun h190 => Ex h h190 → G h190)))) ∨ (∃ a193, some a = some a193 ∧ (kd h a193 = 13 ∧ (wp_J18_remove h (some a) (fun h197 => Ex h h197 → G h197)))) := by
  obtain ⟨M, V, eA⟩ := R.2.2.1 j hj
  refine it_remove (G := G) I M sz cur pO pL last (R.bud hj) (fun h1 h2 h' c1 S c3 M3 I3 P B3 => ?_)
  have ka := I.knd
  have ka3 := I3.knd
  have R1 := R.itc c1 ka
  have k2 := M3.sam (M3.off c3.symm (by omega))
  have e1 : oth (ptC h n O) j = oth (ptC h1 n O) j := oth_congr (fun i _ _ => by unfold ptC; rw [lc_frame (h := h) (h' := h1) (fun y _ => c1.1 y)])
  have e2 : oth (ptS h n O) j = oth (ptS h1 n O) j := oth_congr (fun i _ _ => by unfold ptS; rw [lc_frame (h := h) (h' := h1) (fun y _ => c1.1 y)])
  have B2 := B3.chg c3.symm
  rw [e1, e2] at B2
  obtain ⟨R2, F2⟩ := R1.mst (A' := (flt p (O j)).map (pr h)) hj S k2.1 (by rw [← P]; exact List.map_congr_left k2.2.1) B2
  have R3 := R2.itc c3 (by rw [← c3.1]; exact ka3)
  rw [ufn_self] at R3
  exact fin h' R3 ((c1.fr (by omega)).trans (F2.trans (c3.fr (by rw [← c3.1]; omega)))) I3 P
theorem s_floorMod {h : Hp} {a b : Int32} {K : Int32 → Hp → Prop} (hb : ¬ b = 0) (fin : K (fmo a b) h) : wp_J10_floorMod h a b K := by
  unfold wp_J10_floorMod wp_J10_floorMod_b18
  unfold fmo at fin
  refine ⟨hb, fun w => ?_, fun w => ⟨fun z => ?_, fun z => ?_⟩⟩
  · rw [if_pos w] at fin; exact fin
  · rw [if_neg w, if_pos z] at fin; exact fin
  · rw [if_neg w, if_neg z] at fin; exact fin
theorem sweep_loop {h0 : Hp} {xo : Nat} {m n : Nat → Nat} {A0 : AS} {C Q j a tot : Nat} {s r : Int32} {O0 : List Nat} {g : Nat → Int32 × Int32} {K : Int32 → Hp → Prop} (hj : j < 3) (hs : ¬ s = 0) (l0 : O0.length ≤ 1464) (fin : ∀ h' O', RS h' xo m n O' (ufn A0 j ((O0.filter (fun y => decide (fmo (g y).1 s ≠ r))).map g)) C Q → Fr h0 h' → K (nI tot) h') :
    ∀ (L : List Nat) (f : Nat) (h : Hp) (O : Nat → List Nat) (A : AS) (c : Nat), L.length + 1 ≤ f → RS h xo m n O A C Q → Fr h0 h → Itr h a (m j) (n j) (O j) L → O j = O0.filter (fun y => decide (y ∈ L) || decide (fmo (g y).1 s ≠ r)) → (∀ y ∈ O j, pr h y = g y) → (∀ i, i ≠ j → A i = A0 i) → c + (L.filter (fun y => decide (fmo (g y).1 s = r))).length = tot → wp_X0_sweep_b34 K f h s r (nI c) (some a)
  | L, 0, h, O, A, c, hf, _, _, _, _, _, _, _ => by omega
  | L, f + 1, h, O, A, c, hf, R, F, I, hO, hg, hA, hc => by
    have eA := (R.2.2.1 j hj).2.2
    have gm : (O j).map (pr h) = (O j).map g := List.map_congr_left hg
    unfold wp_X0_sweep_b34
    refine it_has (G := fun q h' => wp_X0_sweep_b41 (wp_X0_sweep_b34 K f) K h' s r (nI c) (some a) q) I (fun e => ?_) (fun p L' e => ?_)
    · unfold wp_X0_sweep_b41
      refine ⟨fun _ => ?_, fun w => absurd rfl w⟩
      have ec : c = tot := by rw [e] at hc; exact hc
      rw [ec]
      refine fin h O ?_ F
      have eO : O j = O0.filter (fun y => decide (fmo (g y).1 s ≠ r)) := by
        rw [hO, e]
        refine List.filter_congr (fun y _ => ?_)
        simp
      have : A = ufn A0 j ((O0.filter (fun y => decide (fmo (g y).1 s ≠ r))).map g) := by
        funext i
        by_cases ei : i = j
        · rw [ei, ufn_eq, ← eA, gm, eO]
        · rw [ufn_ne ei, hA i ei]
      rw [← this]
      exact R
    · subst e
      unfold wp_X0_sweep_b41
      refine ⟨(fun w => by cases w), fun _ => rs_next (G := fun q h' => wp_X0_sweep_b51 (wp_X0_sweep_b34 K f) K h' s r (nI c) (some a) q) R hj I (fun h1 R1 F1 I1 cur pO pL PP ok kp => ?_)⟩
      obtain ⟨b, d, e1, e2, e3, e4, -, -⟩ := ok.keyv
      have gp : pr h1 p = g p := by rw [PP p pO, hg p pO]
      rw [gp] at e2
      have last : kd h1 (m j) = 3 → ∃ X, O j = X ++ p :: L' := fun w => I.last (by rw [← w]; exact ((F1.1.1 (m j) (by have := (R.2.2.1 j hj).1.kdm; omega)).1).symm)
      have hf' : L'.length + 1 ≤ f := by simpa using hf
      have hg1 : ∀ y ∈ O j, pr h1 y = g y := fun y hy => (PP y hy).trans (hg y hy)
      have pO0 : p ∈ O0 := by rw [hO] at pO; exact (List.mem_filter.mp pO).1
      unfold wp_X0_sweep_b51 wp_X0_sweep_b59 wp_J6_getKey wp_J5_intValue
      refine ⟨(fun z ez => by cases ez; exact kp), p, rfl, p, rfl, fun _ => ?_⟩
      rw [e1]
      refine ⟨b, rfl, b, rfl, fun _ => s_floorMod hs (fun _ => ⟨fun q => ?_, fun q => ?_⟩)⟩
      · rw [e2] at q
        refine rs_remove (G := fun h' => wp_X0_sweep_b83 (wp_X0_sweep_b34 K f) K h' s r (nI c) (some a)) R1 hj (by rw [hO]; exact Nat.le_trans (List.length_filter_le _ _) l0) I1 cur pO pL last (fun h2 R2 F2 I2 P2 => ?_)
        unfold wp_X0_sweep_b83
        have := sweep_loop hj hs l0 fin L' f h2 (ufn O j (flt p (O j))) _ (c + 1) hf' R2 (F.trans (F1.trans F2)) (by rw [ufn_eq]; exact I2) ?_ ?_ (fun i ei => by rw [ufn_ne ei]; exact hA i ei) ?_
        · rw [nI_succ] at this; exact this
        · rw [ufn_eq, hO]
          unfold flt
          rw [List.filter_filter]
          refine List.filter_congr (fun y _ => ?_)
          by_cases ey : y = p
          · subst ey
            simp [pL, q]
          · simp [ey]
        · rw [ufn_eq]
          intro y hy
          have yO := (mem_flt.mp hy).1
          rw [← hg1 y yO]
          exact List.map_inj_left.mp P2 y hy
        · rw [List.filter_cons, if_pos (by simpa using q), List.length_cons] at hc
          omega
      · rw [e2] at q
        refine sweep_loop hj hs l0 fin L' f h1 O A c hf' R1 (F.trans F1) I1 ?_ hg1 hA ?_
        · rw [hO]
          refine List.filter_congr (fun y _ => ?_)
          by_cases ey : y = p
          · subst ey
            simp [q]
          · simp [ey]
        · rw [List.filter_cons, if_neg (by simpa using q)] at hc
          exact hc
theorem o_sweep {h : Hp} {xo : Nat} {m n : Nat → Nat} {O : Nat → List Nat} {A : AS} {C Q : Nat} {i s r : Int32} {K : Int32 → Hp → Prop} (R : RS h xo m n O A (C + 2) (Q + 7)) (sz : ∀ j, j < 3 → (A j).length ≤ 1464) (fin : ∀ h' O', RS h' xo m n O' (ssweep A i s r).1 C Q → Fr h h' → K (ssweep A i s r).2 h') : wp_X0_sweep h (some xo) i s r K := by
  unfold wp_X0_sweep
  have bad : ssweep A i s r = (A, -1) → K (-1) h := fun e => by
    rw [e] at fin
    exact fin h O (R.mono (by omega) (by omega)) (Fr.refl h)
  refine ⟨xo, rfl, s_X0_map R (fun j hj e _ => ⟨(fun q => by cases q), fun a q => ?_⟩) (fun e _ => ⟨fun _ => ?_, (fun a q => by cases q)⟩)⟩
  · cases q
    refine ⟨fun s1 => ?_, fun s1 => ?_⟩
    · have s0 : ¬ s < 1 := fun w => by
        rw [Int32.lt_iff_toInt_lt] at w
        rw [Int32.le_iff_toInt_le] at s1
        omega
      have sn : ¬ s = 0 := fun w => by rw [w] at s1; exact absurd s1 (by decide)
      have es : ssweep A i s r = (ufn A j ((A j).filter (fun p => decide (fmo p.1 s ≠ r))), nI ((A j).filter (fun p => decide (fmo p.1 s = r))).length) := by unfold ssweep; rw [e]; exact if_neg s0
      rw [es] at fin
      refine rs_es (C := C + 1) (Q := Q + 5) (G := fun q h' => wp_X0_sweep_b27 K h' s r 0 q) R hj (fun e h1 R1 F1 V1 => ?_)
      unfold wp_X0_sweep_b27
      refine rs_it (C := C) (Q := Q) (G := fun q h' => wp_X0_sweep_b32 K h' s r 0 q) R1 hj (sz j hj) V1 (fun a h2 L R2 F2 I2 pL _ => ?_)
      unfold wp_X0_sweep_b32
      have eA := (R2.2.2.1 j hj).2.2
      refine ⟨L.length + 1, sweep_loop (h0 := h) (g := pr h2) (A0 := A) (C := C) (Q := Q) (O0 := O j) (tot := ((A j).filter (fun p => decide (fmo p.1 s = r))).length) hj sn (by rw [R2.len hj]; exact sz j hj) (fun h' O' R' F' => ?_) L _ h2 O A 0 (Nat.le_refl _) R2 (F1.trans F2) I2 ?_ (fun _ _ => rfl) (fun _ _ => rfl) ?_⟩
      · have e2 : ((O j).filter (fun y => decide (fmo (pr h2 y).1 s ≠ r))).map (pr h2) = (A j).filter (fun p => decide (fmo p.1 s ≠ r)) := by
          rw [← eA, List.filter_map]; rfl
        rw [e2] at R'
        exact fin h' O' R' F'
      · symm
        refine List.filter_eq_self.mpr (fun y hy => ?_)
        simp [pL.mem_iff.mpr hy]
      · rw [Nat.zero_add, ← eA, List.filter_map, List.length_map]
        exact (pL.filter _).length_eq
    · have s0 : s < 1 := by
        rw [Int32.lt_iff_toInt_lt]
        rw [Int32.le_iff_toInt_le] at s1
        omega
      unfold wp_X0_sweep_b17
      exact bad (by unfold ssweep; rw [e]; exact if_pos s0)
  · unfold wp_X0_sweep_b17
    exact bad (by unfold ssweep; rw [e])
