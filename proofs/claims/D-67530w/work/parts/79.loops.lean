/-! THE REAL CALLS: those that go over the entries of one map -/
set_option maxRecDepth 100000
theorem Chg.symm {h h' : Hp} {a : Nat} (c : Chg (fun _ b => b = a) h h') : Chg (fun _ b => b = a) h' h :=
  ⟨fun b => (c.1 b).symm, fun b => (c.2.1 b).symm, c.2.2.1.symm, c.2.2.2.1.symm, fun f b => (c.2.2.2.2 f b).imp id (fun w => ⟨w.1.symm, w.2.symm⟩)⟩
theorem Itr.sub {h : Hp} {a m n : Nat} {O L : List Nat} (k : Itr h a m n O L) : ∀ y ∈ L, y ∈ O := by
  rcases k with ⟨-, -, -, k3, -⟩ | ⟨-, k2⟩
  · exact k3
  · obtain ⟨X, e⟩ := k2.2.2.2.2.2
    intro y hy
    rw [e]; exact List.mem_append_right _ hy
theorem Itr.knd {h : Hp} {a m n : Nat} {O L : List Nat} (k : Itr h a m n O L) : 11 ≤ kd h a ∧ kd h a ≤ 13 := by
  rcases k with ⟨-, k1, -⟩ | ⟨-, k2⟩
  · omega
  · have := k2.1; omega
theorem Itr.nd {h : Hp} {a m n : Nat} {O L : List Nat} (k : Itr h a m n O L) (M : MI h m n O) : L.Nodup := by
  rcases k with ⟨-, -, k2, -⟩ | ⟨-, k2⟩
  · exact k2
  · obtain ⟨X, e⟩ := k2.2.2.2.2.2
    have := M.nd
    rw [e] at this
    exact (List.nodup_append.mp this).2.1
def Cur (h : Hp) (a m p : Nat) : Prop := rf h 32 a = some p ∧ kd h m = 2 ∨ rf h 37 a = some p ∧ kd h m = 3
theorem rs_next {h : Hp} {xo : Nat} {m n : Nat → Nat} {O : Nat → List Nat} {A : AS} {C Q j a p : Nat} {L : List Nat} {G : Option Nat → Hp → Prop} (R : RS h xo m n O A C Q) (hj : j < 3) (k : Itr h a (m j) (n j) (O j) (p :: L)) (fin : ∀ h', RS h' xo m n O A C Q → Fr h h' → Itr h' a (m j) (n j) (O j) L → Cur h' a (m j) p → p ∈ O j → p ∉ L → (∀ y ∈ O j, pr h' y = pr h y) → NodeOK h' p → kd h' p ∈ [5, 6, 7] → G (some p) h') :
    ((∃ a152, some a = some a152 ∧ (kd h a152 = 11 ∧ (wp_J17_next h (some a) (fun r155 h156 => Ex h h156 → G r155 h156)))) ∨ (∃ a159, some a = some a159 ∧ (kd h a159 = 12 ∧ (wp_J16_next h (some a) (fun r162 h163 => Ex h h163 → G r162 h163)))) ∨ (∃ a166, some a = some a166 ∧ (kd h a166 = 13 ∧ (wp_J19_next h (some a) (fun r169 h170 => Ex h h170 → G r169 h170))))) := by
  obtain ⟨M, V, eA⟩ := R.2.2.1 j hj
  refine it_next (G := G) k M (fun h' c I cur pO pR => ?_)
  have R' := R.itc c k.knd
  obtain ⟨M', V', eA'⟩ := R'.2.2.1 j hj
  have P := (M.sam (M.off c (by have := k.knd; omega))).2.1
  refine fin h' R' (c.fr (by have := k.knd; omega)) I (by unfold Cur; rw [c.1]; exact cur) pO pR P (M'.ok p pO) ?_
  obtain ⟨bn, kb⟩ := id M'.1
  have := kb.2.2.2.1 p pO
  have : kd h' p = 5 ∨ kd h' p = 6 ∨ kd h' p = 7 := by omega
  rcases this with w | w | w <;> rw [w] <;> decide
theorem NodeOK.keyv {h : Hp} {p : Nat} (k : NodeOK h p) : ∃ b c, rf h 1 p = some b ∧ it h 23 b = (pr h p).1 ∧ rf h 2 p = some c ∧ it h 23 c = (pr h p).2 ∧ (kd h b = 4 ∨ kd h b = 60) ∧ (kd h c = 4 ∨ kd h c = 60) := by
  obtain ⟨⟨b, h1, h2, -⟩, ⟨c, h3, h4⟩⟩ := k
  refine ⟨b, c, h1, ?_, h3, ?_, h2, h4⟩
  · unfold pr keyI; rw [h1]
  · unfold pr valI; rw [h3]
theorem sum_loop {h0 : Hp} {xo : Nat} {m n : Nat → Nat} {O : Nat → List Nat} {A : AS} {C Q j a : Nat} {K : Int64 → Hp → Prop} (hj : j < 3) :
    ∀ (L : List Nat) (P : List (Int32 × Int32)) (f : Nat) (h : Hp) (s : Int64), L.length + 1 ≤ f → RS h xo m n O A C Q → Fr h0 h → Itr h a (m j) (n j) (O j) L → L.map (pr h) = P → (∀ h', RS h' xo m n O A C Q → Fr h0 h' → K (s + sumL P) h') → wp_X0_sum_b27 K f h s (some a)
  | L, P, 0, h, s, hf, _, _, _, _, _ => by omega
  | L, P, f + 1, h, s, hf, R, F, I, eP, fin => by
    unfold wp_X0_sum_b27
    refine it_has (G := fun r h' => wp_X0_sum_b34 (wp_X0_sum_b27 K f) K h' s (some a) r) I (fun e => ?_) (fun p L' e => ?_)
    · unfold wp_X0_sum_b34
      refine ⟨fun _ => ?_, fun w => absurd rfl w⟩
      have := fin h R F
      rw [← eP, e, show sumL ([].map (pr h)) = 0 from rfl, Int64.add_zero] at this
      exact this
    · subst e
      unfold wp_X0_sum_b34
      refine ⟨(fun w => by cases w), fun _ => rs_next (G := fun r h' => wp_X0_sum_b44 (wp_X0_sum_b27 K f) K h' s (some a) r) R hj I (fun h' R' F' I' _ pO _ PP ok kp => ?_)⟩
      obtain ⟨b, c, e1, e2, e3, e4, -, -⟩ := ok.keyv
      unfold wp_X0_sum_b44 wp_X0_sum_b57 wp_X0_sum_b74 wp_J6_getKey wp_J6_getValue wp_J5_longValue wp_J5_intValue
      refine ⟨(fun z ez => by cases ez; exact kp), p, rfl, p, rfl, fun _ => ?_⟩
      rw [e1]
      refine ⟨b, rfl, b, rfl, fun _ => ⟨p, rfl, p, rfl, fun _ => ?_⟩⟩
      rw [e3]
      refine ⟨c, rfl, c, rfl, fun _ => ?_⟩
      have eL : L'.map (pr h') = L'.map (pr h) := List.map_congr_left (fun y hy => PP y (I'.sub y hy))
      refine sum_loop hj L' (L'.map (pr h)) f h' _ (by simpa using hf) R' (F.trans F') I' eL (fun h2 R2 F2 => ?_)
      have := fin h2 R2 F2
      rw [← eP] at this
      rw [e2, e4, PP p pO, Int64.add_assoc]
      exact this
theorem sumL_perm {l l' : List (Int32 × Int32)} (p : l.Perm l') : sumL l = sumL l' := by
  induction p with
  | nil => rfl
  | cons a _ ih => show _ + _ = _ + _; rw [ih]
  | swap a b l =>
    show (b.1.toInt64 * 31 + b.2.toInt64) + ((a.1.toInt64 * 31 + a.2.toInt64) + sumL l) = (a.1.toInt64 * 31 + a.2.toInt64) + ((b.1.toInt64 * 31 + b.2.toInt64) + sumL l)
    generalize b.1.toInt64 * 31 + b.2.toInt64 = u
    generalize a.1.toInt64 * 31 + a.2.toInt64 = v
    rw [← Int64.add_assoc, ← Int64.add_assoc, Int64.add_comm u]
  | trans _ _ h1 h2 => exact h1.trans h2
theorem o_sum {h : Hp} {xo : Nat} {m n : Nat → Nat} {O : Nat → List Nat} {A : AS} {C Q : Nat} {i : Int32} {K : Int64 → Hp → Prop} (R : RS h xo m n O A (C + 2) (Q + 7)) (sz : ∀ j, j < 3 → (A j).length ≤ 1464) (fin : ∀ h', RS h' xo m n O A C Q → Fr h h' → K (ssum A i) h') : wp_X0_sum h (some xo) i K := by
  unfold wp_X0_sum
  refine ⟨xo, rfl, s_X0_map R (fun j hj e _ => ⟨(fun q => by cases q), fun a q => ?_⟩) (fun e _ => ⟨fun _ => ?_, (fun a q => by cases q)⟩)⟩
  · cases q
    have es : ssum A i = sumL (A j) := by unfold ssum; rw [e]
    rw [es] at fin
    refine rs_es (C := C + 1) (Q := Q + 5) (G := fun r h' => wp_X0_sum_b20 K h' 0 r) R hj (fun e h1 R1 F1 V1 => ?_)
    unfold wp_X0_sum_b20
    refine rs_it (C := C) (Q := Q) (G := fun r h' => wp_X0_sum_b25 K h' 0 r) R1 hj (sz j hj) V1 (fun a h2 L R2 F2 I2 pL _ => ?_)
    unfold wp_X0_sum_b25
    refine ⟨L.length + 1, sum_loop hj L (L.map (pr h2)) _ h2 0 (Nat.le_refl _) R2 (F1.trans F2) I2 rfl (fun h' R' F' => ?_)⟩
    rw [Int64.zero_add, sumL_perm (pL.map (pr h2)), (R2.2.2.1 j hj).2.2]
    exact fin h' R' F'
  · have es : ssum A i = 1099511627777 := by unfold ssum; rw [e]
    rw [es] at fin
    exact fin h (R.mono (by omega) (by omega)) (Fr.refl h)
def resE (k w : Int32) : Nat → List (Int32 × Int32) → Int64
  | _, [] => 1099511627776
  | c, p :: P => if nI c = k then (if w = 0 then p.1.toInt64 else p.2.toInt64) else resE k w (c + 1) P
theorem resE_neg {k w : Int32} (hk : k < 0) : ∀ (P : List (Int32 × Int32)) (c : Nat), c + P.length < 2 ^ 31 → resE k w c P = 1099511627776
  | [], c, _ => rfl
  | p :: P, c, hc => by
    have hc' : c + (P.length + 1) < 2 ^ 31 := hc
    show (if nI c = k then _ else resE k w (c + 1) P) = _
    rw [if_neg (fun e => nI_pos (n := c) (by omega) (by rw [e]; exact hk)), resE_neg hk P (c + 1) (by omega)]
theorem resE_pos {w : Int32} {q : Nat} (hq : q < 2 ^ 31) : ∀ (P : List (Int32 × Int32)) (c : Nat), c ≤ q → resE (nI q) w c P = match P[q - c]? with
    | none => 1099511627776
    | some p => if w = 0 then p.1.toInt64 else p.2.toInt64
  | [], c, _ => rfl
  | p :: P, c, hc => by
    show (if nI c = nI q then _ else resE (nI q) w (c + 1) P) = _
    by_cases e : c = q
    · rw [if_pos (by rw [e]), e, Nat.sub_self]; rfl
    · rw [if_neg (fun z => e (nI_inj (by omega) hq z)), resE_pos hq P (c + 1) (by omega), show q - c = (q - (c + 1)) + 1 by omega, List.getElem?_cons_succ]
theorem entry_loop {h0 : Hp} {xo : Nat} {m n : Nat → Nat} {O : Nat → List Nat} {A : AS} {C Q j a : Nat} {k w : Int32} {K : Int64 → Hp → Prop} (hj : j < 3) :
    ∀ (L : List Nat) (P : List (Int32 × Int32)) (f : Nat) (h : Hp) (c : Nat), L.length + 1 ≤ f → RS h xo m n O A C Q → Fr h0 h → Itr h a (m j) (n j) (O j) L → L.map (pr h) = P → (∀ h', RS h' xo m n O A C Q → Fr h0 h' → K (resE k w c P) h') → wp_X0_entry_b41 K f h k w (nI c) (some a)
  | L, P, 0, h, c, hf, _, _, _, _, _ => by omega
  | L, P, f + 1, h, c, hf, R, F, I, eP, fin => by
    unfold wp_X0_entry_b41
    refine it_has (G := fun r h' => wp_X0_entry_b48 (wp_X0_entry_b41 K f) K h' k w (nI c) (some a) r) I (fun e => ?_) (fun p L' e => ?_)
    · unfold wp_X0_entry_b48
      refine ⟨fun _ => ?_, fun w => absurd rfl w⟩
      have := fin h R F
      rw [← eP, e] at this
      exact this
    · subst e
      unfold wp_X0_entry_b48
      refine ⟨(fun w => by cases w), fun _ => rs_next (G := fun r h' => wp_X0_entry_b58 (wp_X0_entry_b41 K f) K h' k w (nI c) (some a) r) R hj I (fun h' R' F' I' _ pO _ PP ok kp => ?_)⟩
      obtain ⟨b, d, e1, e2, e3, e4, -, -⟩ := ok.keyv
      have eL : L'.map (pr h') = L'.map (pr h) := List.map_congr_left (fun y hy => PP y (I'.sub y hy))
      rw [PP p pO] at e2 e4
      unfold wp_X0_entry_b58
      refine ⟨(fun z ez => by cases ez; exact kp), fun ne => ?_, fun eq => ⟨fun w0 => ⟨p, rfl, p, rfl, fun _ => ?_⟩, fun w0 => ⟨p, rfl, p, rfl, fun _ => ?_⟩⟩⟩
      · have := entry_loop hj L' (L'.map (pr h)) f h' (c + 1) (by simpa using hf) R' (F.trans F') I' eL (fun h2 R2 F2 => by
          have := fin h2 R2 F2
          rw [← eP] at this
          have e : resE k w c ((p :: L').map (pr h)) = resE k w (c + 1) (L'.map (pr h)) := by
            show (if nI c = k then _ else _) = _
            rw [if_neg ne]
          rw [e] at this
          exact this)
        rw [nI_succ] at this
        exact this
      · have := fin h' R' (F.trans F')
        rw [← eP] at this
        have e : resE k w c ((p :: L').map (pr h)) = (pr h p).2.toInt64 := by
          show (if nI c = k then _ else _) = _
          rw [if_pos eq, if_neg w0]
        rw [e, ← e4] at this
        rw [e3]
        exact ⟨d, rfl, d, rfl, fun _ => this⟩
      · have := fin h' R' (F.trans F')
        rw [← eP] at this
        have e : resE k w c ((p :: L').map (pr h)) = (pr h p).1.toInt64 := by
          show (if nI c = k then _ else _) = _
          rw [if_pos eq, if_pos w0]
        rw [e, ← e2] at this
        rw [e1]
        exact ⟨b, rfl, b, rfl, fun _ => this⟩
theorem o_entry {h : Hp} {xo : Nat} {m n : Nat → Nat} {O : Nat → List Nat} {A : AS} {C Q : Nat} {i k w : Int32} {K : Int64 → Hp → Prop} (R : RS h xo m n O A (C + 2) (Q + 7)) (sz : ∀ j, j < 3 → (A j).length ≤ 1464) (fin : ∀ h', RS h' xo m n O A C Q → Fr h h' → K (sentry A i k w) h') : wp_X0_entry h (some xo) i k w K := by
  have fin0 := fin h (R.mono (by omega) (by omega)) (Fr.refl h)
  have bad : ¬ ((i = 1 ∨ i = 2) ∧ (w = 0 ∨ w = 1)) → K 1099511627777 h := fun z => by
    unfold sentry at fin0
    rw [if_neg z] at fin0
    exact fin0
  unfold wp_X0_entry wp_X0_entry_b19
  have i12 : ∀ {y : Int32}, ¬ y < 1 → ¬ 2 < y → y = 1 ∨ y = 2 := fun {y} h1 h2 => by
    simp only [Int32.lt_iff_toInt_lt] at h1 h2
    have e1 : Int32.toInt 1 = 1 := by decide
    have e2 : Int32.toInt 2 = 2 := by decide
    have : y.toInt = 1 ∨ y.toInt = 2 := by omega
    rcases this with z | z
    · exact Or.inl (Int32.toInt_inj.mp (by rw [z, e1]))
    · exact Or.inr (Int32.toInt_inj.mp (by rw [z, e2]))
  have w01 : ∀ {y : Int32}, ¬ y < 0 → y ≤ 1 → y = 0 ∨ y = 1 := fun {y} h1 h2 => by
    simp only [Int32.lt_iff_toInt_lt, Int32.le_iff_toInt_le] at h1 h2
    have e1 : Int32.toInt 1 = 1 := by decide
    have e2 : Int32.toInt 0 = 0 := by decide
    have : y.toInt = 0 ∨ y.toInt = 1 := by omega
    rcases this with z | z
    · exact Or.inl (Int32.toInt_inj.mp (by rw [z, e2]))
    · exact Or.inr (Int32.toInt_inj.mp (by rw [z, e1]))
  refine ⟨fun a1 => bad (fun z => ?_), fun a1 => ⟨fun a2 => bad (fun z => ?_), fun a2 => ⟨fun a3 => bad (fun z => ?_), fun a3 => ⟨fun a4 => ⟨xo, rfl, ?_⟩, fun a4 => bad (fun z => ?_)⟩⟩⟩⟩
  · rcases z.1 with z | z <;> rw [z] at a1 <;> exact absurd a1 (by decide)
  · rcases z.1 with z | z <;> rw [z] at a2 <;> exact absurd a2 (by decide)
  · rcases z.2 with z | z <;> rw [z] at a3 <;> exact absurd a3 (by decide)
  · have i12 := i12 a1 a2
    have w01 := w01 a3 a4
    obtain ⟨j, ej, hj, kj⟩ : ∃ j, mix i = some j ∧ i.toNatClampNeg = j ∧ (j = 1 ∨ j = 2) := by
      rcases i12 with z | z
      · exact ⟨1, by rw [z]; decide, by rw [z]; decide, Or.inl rfl⟩
      · exact ⟨2, by rw [z]; decide, by rw [z]; decide, Or.inr rfl⟩
    have es : ∀ P, P = A j → P.length ≤ 1464 → sentry A i k w = resE k w 0 P := fun P eP lP => by
      unfold sentry
      rw [if_pos ⟨i12, w01⟩, hj, ← eP]
      by_cases k0 : k < 0
      · rw [if_pos k0, resE_neg k0 P 0 (by omega)]
      · rw [if_neg k0]
        obtain ⟨q, hq, ek⟩ := nI_of k0
        rw [ek, nI_clamp hq, resE_pos hq P 0 (by omega)]
        rfl
    refine s_X0_map R (fun j' hj' e _ => ?_) (fun e _ => by rw [e] at ej; cases ej)
    rw [ej] at e
    cases e
    have g := rs_es (C := C + 1) (Q := Q + 5) (G := fun r h' => wp_X0_entry_b34 K h' k w 0 r) R hj' (fun e h1 R1 F1 V1 => by
      unfold wp_X0_entry_b34
      refine rs_it (C := C) (Q := Q) (G := fun r h' => wp_X0_entry_b39 K h' k w 0 r) R1 hj' (sz j hj') V1 (fun a h2 L R2 F2 I2 pL eL => ?_)
      have k3 : kd h2 (m j) = 3 := by
        rcases kj with z | z
        · rw [z]; exact R2.2.1.2.1
        · rw [z]; exact R2.2.1.2.2.1
      have eL := eL k3
      subst eL
      unfold wp_X0_entry_b39
      refine ⟨(O j).length + 1, entry_loop hj' (O j) (A j) _ h2 0 (Nat.le_refl _) R2 (F1.trans F2) I2 (R2.2.2.1 j hj').2.2 (fun h' R' F' => ?_)⟩
      rw [← es (A j) rfl (sz j hj')]
      exact fin h' R' F')
    rcases g with z | z
    · exact Or.inl ⟨m j, rfl, z⟩
    · exact Or.inr ⟨m j, rfl, z⟩
  · rcases z.2 with z | z <;> rw [z] at a4 <;> exact absurd (by decide) a4
