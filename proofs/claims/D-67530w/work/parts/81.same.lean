/-! FILL, SAME, HASALL -/
set_option maxRecDepth 100000
theorem fill_loop {h0 : Hp} {xo : Nat} {m : Nat → Nat} {A0 : AS} {C Q j N : Nat} {fs s : Int32} {l0 : List (Int32 × Int32)} {K : Int32 → Hp → Prop} (hj : j < 3) (d0 : KD l0) (hl : l0.length ≤ 1000) (hN : N ≤ 400) (fin : ∀ h' n' O', RS h' xo m n' O' (ufn A0 j (fillL j fs s N l0)) C Q → Fr h0 h' → K (nI (fillL j fs s N l0).length) h') :
    ∀ (r f : Nat) (h : Hp) (n : Nat → Nat) (O : Nat → List Nat) (c : Nat), c + r = N → r + 1 ≤ f → RS h xo m n O (ufn A0 j (fillL j fs s c l0)) (C + 4 * r) (Q + 19 * r) → Fr h0 h → wp_X0_fill_b45 K f h s (nI N) (some (m j)) (fs + nI c * s) (nI c)
  | r, 0, h, n, O, c, _, hf, _, _ => by omega
  | r, f + 1, h, n, O, c, hc, hf, R, F => by
    unfold wp_X0_fill_b45
    refine ⟨fun w => ?_, fun w => ?_⟩
    · rw [nI_leI (by omega) (by omega)] at w
      have ec : c = N := by omega
      unfold wp_J1_size wp_X0_fill_b85
      refine ⟨m j, rfl, m j, rfl, fun _ => ?_⟩
      have := R.len hj
      rw [(R.2.2.1 j hj).1.2.1, this, ufn_eq, ec]
      rw [ec] at R
      exact fin h n O (R.mono (by omega) (by omega)) F
    · rw [nI_leI (by omega) (by omega)] at w
      obtain ⟨r', rfl⟩ : ∃ r', r = r' + 1 := ⟨r - 1, by omega⟩
      refine s_valueOf (R.rm (by omega) (by omega)) (fun b h1 N1 kb e1 c1 c2 _ => s_valueOf ((R.nws N1 (C' := C + 4 * r' + 3) (Q' := Q + 19 * r' + 18) (by omega) (by omega)).rm (by omega) (by omega)) (fun b2 h2 N2 kb2 e2 c3 c4 _ => ⟨m j, rfl, ?_⟩))
      have R2 : RS h2 xo m n O (ufn A0 j (fillL j fs s c l0)) (C + 4 * r' + 2) (Q + 19 * r' + 17) := R.nws (N1.trans N2) (by omega) (by omega)
      have b0 : kd h1 b ≠ 0 := by omega
      have kb' : kd h2 b = 4 ∨ kd h2 b = 60 := by rw [(N2.1.1 b b0).1]; exact kb
      have eb : it h2 23 b = fs + nI c * s := by rw [(N2.2 23 b b0).2]; exact e1
      have sz : ((ufn A0 j (fillL j fs s c l0)) j).length ≤ 1463 := by
        rw [ufn_eq]
        have := (d0.fill j fs s c).2
        omega
      have go : ∀ h' n' O', RS h' xo m n' O' (ufn (ufn A0 j (fillL j fs s c l0)) j (aput j (ufn A0 j (fillL j fs s c l0) j) (it h2 23 b) (it h2 23 b2))) (C + 4 * r') (Q + 19 * r') → Fr h2 h' → wp_X0_fill_b45 K f h' s (nI N) (some (m j)) (fs + nI c * s + s) (nI c + 1) := fun h' n' O' R' F' => by
        rw [ufn_ufn, ufn_eq, eb, e2] at R'
        have := fill_loop hj d0 hl hN fin r' f h' n' O' (c + 1) (by omega) (by omega) R' (F.trans ((N1.trans N2).fr.trans F'))
        rw [nI_succ, Int32.add_mul, Int32.one_mul, ← Int32.add_assoc] at this
        exact this
      exact rs_put R2 hj sz kb' kb2 (fun a h' n' O' _ _ R' F' _ => go h' n' O' R' F') (fun h' n' O' _ R' F' _ => go h' n' O' R' F')
theorem o_fill {h : Hp} {xo : Nat} {m n : Nat → Nat} {O : Nat → List Nat} {A : AS} {C Q : Nat} {i fs s c : Int32} {K : Int32 → Hp → Prop} (R : RS h xo m n O A (C + 1600) (Q + 7600)) (sz : ∀ j, j < 3 → (A j).length ≤ 1464) (fin : ∀ h' n' O', RS h' xo m n' O' (sfill A i fs s c).1 C Q → Fr h h' → K (sfill A i fs s c).2 h') : wp_X0_fill h (some xo) i fs s c K := by
  unfold wp_X0_fill
  have bad : sfill A i fs s c = (A, -1) → K (-1) h := fun e => by
    rw [e] at fin
    exact fin h n O (R.mono (by omega) (by omega)) (Fr.refl h)
  refine ⟨xo, rfl, s_X0_map R (fun j hj e _ => ⟨(fun q => by cases q), fun a q => ?_⟩) (fun e _ => ⟨fun _ => ?_, (fun a q => by cases q)⟩)⟩
  · cases q
    unfold wp_X0_fill_b37
    have es : sfill A i fs s c = if c < 1 ∨ 400 < c ∨ 1000 < (A j).length then (A, -1) else (ufn A j (fillL j fs s c.toNatClampNeg (A j)), nI (fillL j fs s c.toNatClampNeg (A j)).length) := by unfold sfill; rw [e]
    refine ⟨fun c1 => bad (by rw [es, if_pos (Or.inl c1)]), fun c1 => ⟨fun c2 => bad (by rw [es, if_pos (Or.inr (Or.inl c2))]), fun c2 => ?_⟩⟩
    unfold wp_J1_size wp_X0_fill_b31 wp_X0_fill_b37
    have e15 : it h 15 (m j) = nI (A j).length := by rw [(R.2.2.1 j hj).1.2.1, R.len hj]
    have lj := sz j hj
    have k1 : (1000 : Int32) = nI 1000 := by decide
    refine ⟨m j, rfl, fun _ => ?_⟩
    rw [e15, k1]
    refine ⟨fun w => ?_, fun w => bad ?_⟩
    · rw [nI_leI (by omega) (by omega)] at w
      have c0 : ¬ c < 0 := fun z => by
        rw [Int32.lt_iff_toInt_lt] at z c1
        have e1 : Int32.toInt 1 = 1 := by decide
        have e2 : Int32.toInt 0 = 0 := by decide
        omega
      obtain ⟨N, hN, eN⟩ := nI_of c0
      have e400 : (400 : Int32) = nI 400 := by decide
      have hN4 : N ≤ 400 := by
        rw [eN, e400, nI_ltI (by omega) hN] at c2
        omega
      rw [es, if_neg (fun z => by rcases z with z | z | z; exact c1 z; exact c2 z; omega), eN, nI_clamp hN] at fin
      rw [eN]
      refine ⟨N + 1, ?_⟩
      have := fill_loop (h0 := h) (A0 := A) (C := C) (Q := Q) (s := s) (fs := fs) hj (l0 := A j) (by rw [← (R.2.2.1 j hj).2.2]; exact (R.2.2.1 j hj).1.kdp) w hN4 fin N (N + 1) h n O 0 (by omega) (by omega) (by show RS h xo m n O (ufn A j (A j)) _ _; rw [ufn_self]; exact R.mono (by omega) (by omega)) (Fr.refl h)
      rw [nI_0, Int32.zero_mul, Int32.add_zero] at this
      exact this
    · rw [nI_leI (by omega) (by omega)] at w
      rw [es, if_pos (Or.inr (Or.inr (by omega)))]
  · unfold wp_X0_fill_b37
    exact bad (by unfold sfill; rw [e])
theorem Itr.sam {h h' : Hp} {a m n : Nat} {O L : List Nat} (k : Itr h a m n O L) (M : MI h m n O) (S : Sam h h' m O) (fa : ∀ f, rf h' f a = rf h f a ∧ it h' f a = it h f a) : Itr h' a m n O L := by
  have ka := k.knd
  have km := M.kdm
  exact k.fra (S.1.1 m (by omega)).1 (S.1.1 a (by omega)).1 fa (S.2.2 16 m (Or.inl rfl)).2 (fun bn kb => kb.sam S)
theorem rs_get {h : Hp} {xo : Nat} {m n : Nat → Nat} {O : Nat → List Nat} {A : AS} {C Q j c : Nat} {G : Option Nat → Hp → Prop} (R : RS h xo m n O A C Q) (hj : j < 3) (j2 : j ≠ 2) (f1 : ∀ a h', NodeOK h a → aget (A j) (it h 23 c) = some (valI h a) → RS h' xo m n O A C Q → Mst h h' (m j) (O j) (O j) → G (rf h 2 a) h') (f0 : aget (A j) (it h 23 c) = none → G none h) :
    (∃ a255, some (m j) = some a255 ∧ (kd h a255 = 2 ∧ wp_J1_get h (some (m j)) (some c) (fun r h' => Ex h h' → G r h'))) ∨ (∃ a262, some (m j) = some a262 ∧ (kd h a262 = 3 ∧ wp_J2_get h (some (m j)) (some c) (fun r h' => Ex h h' → G r h'))) := by
  obtain ⟨M, V, eA⟩ := R.2.2.1 j hj
  have g := s_get (c := c) (K := fun r h' => Ex h h' → G r h') M (R.bud hj) (fun a ha e h' M' S P B' _ => by
    obtain ⟨ag, R', f'⟩ := R.used hj ha e M' S P B'
    have ea : acc h (m j) (O j) a = O j := by rw [rs_acc R hj, if_neg j2]
    have eu : ause j (A j) (it h 23 c) = A j := by unfold ause; rw [if_neg j2]
    rw [ea, eu, ufn_self, ufn_self, ufn_self] at R'
    rw [ea] at S
    exact f1 a h' (M.ok a ha) ag R' S) (fun ne _ => f0 (by rw [← eA]; exact pr_get0 ne))
  rcases M.kdm with w | w
  · exact Or.inl ⟨m j, rfl, w, g.1 w⟩
  · exact Or.inr ⟨m j, rfl, w, g.2 w⟩
theorem eq_loop {h0 : Hp} {xo : Nat} {m n : Nat → Nat} {O : Nat → List Nat} {A : AS} {C Q i j a : Nat} {K : Int32 → Hp → Prop} (hi : i < 3) (hj : j < 3) (ij : i ≠ j) (j2 : j ≠ 2) :
    ∀ (L : List Nat) (P : List (Int32 × Int32)) (f : Nat) (h : Hp), L.length + 1 ≤ f → RS h xo m n O A C Q → Fr h0 h → Itr h a (m i) (n i) (O i) L → L.map (pr h) = P → (∀ h', RS h' xo m n O A C Q → Fr h0 h' → (∀ p ∈ P, aget (A j) p.1 = some p.2) → K 1 h') → (∀ h', RS h' xo m n O A C Q → Fr h0 h' → (∃ p ∈ P, aget (A j) p.1 ≠ some p.2) → K 0 h') → wp_J0_equals_b49 K f h (some (m j)) (some a)
  | L, P, 0, h, hf, _, _, _, _, _, _ => by omega
  | L, P, f + 1, h, hf, R, F, I, eP, f1, f0 => by
    unfold wp_J0_equals_b49
    refine it_has (G := fun r h' => wp_J0_equals_b55 (wp_J0_equals_b49 K f) K h' (some (m j)) (some a) r) I (fun e => ?_) (fun p L' e => ?_)
    · unfold wp_J0_equals_b55
      refine ⟨fun _ => f1 h R F (fun p hp => ?_), fun w => absurd rfl w⟩
      rw [← eP, e] at hp
      cases hp
    · subst e
      unfold wp_J0_equals_b55
      refine ⟨(fun w => by cases w), fun _ => rs_next (G := fun r h' => wp_J0_equals_b64 (wp_J0_equals_b49 K f) K h' (some (m j)) (some a) r) R hi I (fun h1 R1 F1 I1 _ pO _ PP ok kp => ?_)⟩
      obtain ⟨b, c, e1, e2, e3, e4, kb, kc⟩ := ok.keyv
      rw [PP p pO] at e2 e4
      have eL : L'.map (pr h1) = L'.map (pr h) := List.map_congr_left (fun y hy => PP y (I1.sub y hy))
      have pP : pr h p ∈ P := by rw [← eP]; exact List.mem_map.mpr ⟨p, List.mem_cons_self, rfl⟩
      have cut : ∀ h2, RS h2 xo m n O A C Q → Fr h1 h2 → Itr h2 a (m i) (n i) (O i) L' → (∀ y ∈ O i, pr h2 y = pr h1 y) → aget (A j) (pr h p).1 = some (pr h p).2 → wp_J0_equals_b49 K f h2 (some (m j)) (some a) := fun h2 R2 F2 I2 P2 eq => by
        refine eq_loop hi hj ij j2 L' (L'.map (pr h)) f h2 (by simpa using hf) R2 (F.trans (F1.trans F2)) I2 ?_ (fun h' R' F' q => f1 h' R' F' (fun z hz => ?_)) (fun h' R' F' q => f0 h' R' F' ?_)
        · rw [← eL]
          exact List.map_congr_left (fun y hy => P2 y (I1.sub y hy))
        · rw [← eP] at hz
          rcases List.mem_cons.mp hz with w | w
          · rw [w]; exact eq
          · exact q z w
        · obtain ⟨z, hz, q⟩ := q
          exact ⟨z, by rw [← eP]; exact List.mem_cons_of_mem _ hz, q⟩
      unfold wp_J0_equals_b64 wp_J0_equals_b76 wp_J0_equals_b85 wp_J6_getKey wp_J6_getValue
      refine ⟨(fun z ez => by cases ez; exact kp), p, rfl, p, rfl, fun _ => ⟨p, rfl, p, rfl, fun _ => ?_⟩⟩
      rw [e1, e3]
      refine ⟨(fun w => by cases w), fun c' ec => ?_⟩
      cases ec
      refine rs_get (G := fun r h' => wp_J0_equals_b126 (wp_J0_equals_b49 K f) K h' (some (m j)) (some a) r (some c)) R1 hj j2 (fun q h2 okq ag R2 S2 => ?_) (fun ag => ?_)
      · obtain ⟨-, c2, d1, d2⟩ := okq
        have ev : valI h1 q = it h1 23 c2 := by unfold valI; rw [d1]
        obtain ⟨M1, V1, eA1⟩ := R1.2.2.1 j hj
        obtain ⟨Mi, Vi, eAi⟩ := R1.2.2.1 i hi
        have IS := S2.int M1
        have F2 := S2.ost.fr M1
        have Si := S2.sam M1 Mi (R1.2.2.2.1 j i hj hi (fun w => ij w.symm))
        have ka := I1.knd
        have fa : ∀ f, rf h2 f a = rf h1 f a ∧ it h2 f a = it h1 f a := fun f => S2.2.1 f a (by omega) (fun w => by have := M1.ownk (b := a) (Or.inl w); omega) (fun w => by have := M1.ownk (b := a) (Or.inr (Or.inl w)); omega) (fun w => by have := M1.ownk (b := a) (Or.inr (Or.inr w)); omega)
        have I2 := I1.sam Mi Si fa
        unfold wp_J0_equals_b126
        refine ⟨c, rfl, ?_⟩
        rw [d1]
        refine s_equals (fun z _ => ⟨fun _ => ?_, (fun w => by cases w)⟩) (fun z _ => ⟨fun w => absurd rfl w, fun _ => ?_⟩)
        · rw [(IS c kc).2, (IS c2 d2).2, e4, ← ev] at z
          unfold wp_J0_equals_b134
          refine cut h2 R2 F2 I2 (Mi.sam Si).2.1 ?_
          rw [← e2, ag, z]
        · rw [(IS c kc).2, (IS c2 d2).2, e4, ← ev] at z
          refine f0 h2 R2 (F.trans (F1.trans F2)) ⟨_, pP, fun w => z ?_⟩
          rw [← e2, ag] at w
          exact (Option.some.inj w).symm
      · unfold wp_J0_equals_b126
        refine ⟨c, rfl, ?_⟩
        unfold wp_J5_equals
        refine ⟨(fun z ez => by cases ez), fun _ _ => ⟨fun w => absurd rfl w, fun _ => ?_⟩⟩
        refine f0 h1 R1 (F.trans F1) ⟨_, pP, fun w => ?_⟩
        rw [← e2, ag] at w
        cases w
theorem sub_all : ∀ {X Y : List (Int32 × Int32)}, X.Nodup → (∀ p ∈ X, p ∈ Y) → Y.length ≤ X.length → ∀ p ∈ Y, p ∈ X
  | [], Y, _, _, hl => by
    have : Y = [] := List.eq_nil_of_length_eq_zero (by simpa using hl)
    subst this
    intro p hp; cases hp
  | q :: X, Y, nd, hs, hl => by
    have nd := List.nodup_cons.mp nd
    have qY : q ∈ Y := hs q List.mem_cons_self
    have le : (Y.erase q).length = Y.length - 1 := List.length_erase_of_mem qY
    have ih := sub_all (X := X) (Y := Y.erase q) nd.2 (fun p hp => (List.mem_erase_of_ne (fun (w : p = q) => nd.1 (w ▸ hp))).mpr (hs p (List.mem_cons_of_mem _ hp))) (by rw [List.length_cons] at hl; omega)
    intro p hp
    by_cases e : p = q
    · rw [e]; exact List.mem_cons_self
    · exact List.mem_cons_of_mem _ (ih p ((List.mem_erase_of_ne e).mpr hp))
theorem KD.nd {l : List (Int32 × Int32)} (d : KD l) : l.Nodup := by
  unfold KD at d
  exact List.Pairwise.imp (fun {p q} ne e => ne (by rw [e])) (List.pairwise_map.mp d)
theorem same_comm {X Y : List (Int32 × Int32)} (dX : KD X) (dY : KD Y) (hl : X.length = Y.length) (h : ∀ p ∈ X, aget Y p.1 = some p.2) : ∀ p ∈ Y, aget X p.1 = some p.2 := fun p hp => aget_in dX (sub_all dX.nd (fun q hq => aget_mem (h q hq)) (by omega) p hp)
theorem rs_equals {h : Hp} {xo : Nat} {m n : Nat → Nat} {O : Nat → List Nat} {A : AS} {C Q i j : Nat} {K : Int32 → Hp → Prop} (R : RS h xo m n O A (C + 2) (Q + 7)) (hi : i < 3) (hj : j < 3) (j2 : j ≠ 2) (ij : i ≠ j) (sz : ∀ j, j < 3 → (A j).length ≤ 1464) (f1 : ∀ h', RS h' xo m n O A C Q → Fr h h' → (A i).length = (A j).length ∧ (∀ p ∈ A i, aget (A j) p.1 = some p.2) → K 1 h') (f0 : ∀ h', RS h' xo m n O A C Q → Fr h h' → ¬ ((A i).length = (A j).length ∧ (∀ p ∈ A i, aget (A j) p.1 = some p.2)) → K 0 h') : wp_J0_equals h (some (m i)) (some (m j)) K := by
  unfold wp_J0_equals
  refine ⟨fun _ => ⟨fun a ea _ => ?_, (fun w => by cases w)⟩, fun w => absurd (Option.some.inj w) (R.own_ne hj hi (fun z => ij z.symm))⟩
  cases ea
  unfold wp_J1_size wp_J0_equals_b30 wp_J1_size
  have ei : it h 15 (m i) = nI (A i).length := by rw [(R.2.2.1 i hi).1.2.1, R.len hi]
  have ej : it h 15 (m j) = nI (A j).length := by rw [(R.2.2.1 j hj).1.2.1, R.len hj]
  have li := sz i hi
  have lj := sz j hj
  refine ⟨m j, rfl, fun _ => ⟨m i, rfl, m i, rfl, fun _ => ?_⟩⟩
  unfold wp_J0_equals_b34
  rw [ei, ej]
  refine ⟨fun w => ?_, fun w => f0 h (R.mono (by omega) (by omega)) (Fr.refl h) (fun z => w (by rw [z.1]))⟩
  have el : (A i).length = (A j).length := (nI_inj (by omega) (by omega) w).symm
  have g := rs_es (C := C + 1) (Q := Q + 5) (G := fun r h' => wp_J0_equals_b43 K h' (some (m j)) r) R hi (fun e h1 R1 F1 V1 => by
    unfold wp_J0_equals_b43
    refine rs_it (C := C) (Q := Q) (G := fun r h' => wp_J0_equals_b48 K h' (some (m j)) r) R1 hi li V1 (fun a h2 L R2 F2 I2 pL _ => ?_)
    unfold wp_J0_equals_b48
    have pP : (L.map (pr h2)).Perm (A i) := by rw [← (R2.2.2.1 i hi).2.2]; exact pL.map _
    refine ⟨L.length + 1, eq_loop (h0 := h) hi hj ij j2 L (L.map (pr h2)) _ h2 (Nat.le_refl _) R2 (F1.trans F2) I2 rfl (fun h' R' F' q => f1 h' R' F' ⟨el, fun p hp => q p (pP.mem_iff.mpr hp)⟩) (fun h' R' F' q => f0 h' R' F' (fun z => ?_))⟩
    obtain ⟨p, hp, q⟩ := q
    exact q (z.2 p (pP.mem_iff.mp hp)))
  rcases g with z | z
  · exact Or.inl ⟨m i, rfl, z⟩
  · exact Or.inr ⟨m i, rfl, z⟩
theorem o_same {h : Hp} {xo : Nat} {m n : Nat → Nat} {O : Nat → List Nat} {A : AS} {C Q : Nat} {a b : Int32} {K : Int32 → Hp → Prop} (R : RS h xo m n O A (C + 2) (Q + 7)) (sz : ∀ j, j < 3 → (A j).length ≤ 1464) (fin : ∀ h', RS h' xo m n O A C Q → Fr h h' → K (ssame A a b) h') : wp_X0_same h (some xo) a b K := by
  have Rm := R.mono (C' := C) (Q' := Q) (by omega) (by omega)
  have dk : ∀ j, j < 3 → KD (A j) := fun j hj => by rw [← (R.2.2.1 j hj).2.2]; exact (R.2.2.1 j hj).1.kdp
  unfold wp_X0_same
  refine ⟨xo, rfl, s_X0_map R (fun i hi ei _ => s_X0_map R (fun j hj ej _ => ⟨(fun q => by cases q), fun a1 q1 => ⟨(fun q => by cases q), fun a2 q2 => ?_⟩⟩) (fun ej _ => ⟨(fun q => by cases q), fun a1 q1 => ⟨fun _ => ?_, (fun a q => by cases q)⟩⟩)) (fun ei _ => s_X0_map R (fun j hj ej _ => ⟨fun _ => ?_, (fun a q => by cases q)⟩) (fun ej _ => ⟨fun _ => ?_, (fun a q => by cases q)⟩))⟩
  · cases q1
    cases q2
    have es : ssame A a b = if (A i).length = (A j).length ∧ ∀ p ∈ A i, aget (A j) p.1 = some p.2 then 1 else 0 := by unfold ssame; rw [ei, ej]
    have one : i = j → K 1 h := fun w => by
      have := fin h Rm (Fr.refl h)
      rw [es, if_pos ⟨by rw [w], fun p hp => by rw [← w]; exact aget_in (dk i hi) hp⟩] at this
      exact this
    have k1 : ∀ h', RS h' xo m n O A C Q → Fr h h' → ((A i).length = (A j).length ∧ ∀ p ∈ A i, aget (A j) p.1 = some p.2) → K 1 h' := fun h' R' F' q => by
      have := fin h' R' F'
      rw [es, if_pos q] at this
      exact this
    have k0 : ∀ h', RS h' xo m n O A C Q → Fr h h' → ¬ ((A i).length = (A j).length ∧ ∀ p ∈ A i, aget (A j) p.1 = some p.2) → K 0 h' := fun h' R' F' q => by
      have := fin h' R' F'
      rw [es, if_neg q] at this
      exact this
    rw [R.1.2.2.2]
    unfold wp_X0_same_b39 wp_X0_same_b48
    refine ⟨fun w => ?_, fun w => ?_⟩
    · have j2 : j ≠ 2 := fun z => w (by rw [z])
      by_cases ij : i = j
      · unfold wp_J0_equals
        rw [ij]
        exact ⟨fun z => absurd rfl z, fun _ _ => ⟨Or.inr rfl, one ij⟩⟩
      · exact rs_equals R hi hj j2 ij sz (fun h' R' F' q _ => ⟨Or.inr rfl, k1 h' R' F' q⟩) (fun h' R' F' q _ => ⟨Or.inl rfl, k0 h' R' F' q⟩)
    · have j2 : j = 2 := by
        by_cases z : j = 2
        · exact z
        · exact absurd (Option.some.inj w) (R.own_ne hj (by omega) z)
      by_cases ij : i = j
      · unfold wp_J0_equals
        rw [ij]
        exact ⟨fun z => absurd rfl z, fun _ _ => ⟨Or.inr rfl, one ij⟩⟩
      · exact rs_equals R hj hi (fun z => ij (by omega)) (fun z => ij z.symm) sz (fun h' R' F' q _ => ⟨Or.inr rfl, k1 h' R' F' ⟨q.1.symm, same_comm (dk j hj) (dk i hi) q.1 q.2⟩⟩) (fun h' R' F' q _ => ⟨Or.inl rfl, k0 h' R' F' (fun z => q ⟨z.1.symm, same_comm (dk i hi) (dk j hj) z.1 z.2⟩)⟩)
  all_goals
    have es : ssame A a b = 0 := by unfold ssame; simp [ei, ej]
    have := fin h Rm (Fr.refl h)
    rw [es] at this
    exact this
