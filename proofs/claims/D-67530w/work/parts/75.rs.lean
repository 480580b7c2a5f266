/-! THE REAL SIDE: three maps -/
set_option maxRecDepth 100000
def ufn {α : Type} (f : Nat → α) (k : Nat) (v : α) : Nat → α := fun j => if j = k then v else f j
theorem ufn_eq {α : Type} (f : Nat → α) (k : Nat) (v : α) : ufn f k v k = v := if_pos rfl
theorem ufn_ne {α : Type} {f : Nat → α} {k j : Nat} {v : α} (e : j ≠ k) : ufn f k v j = f j := if_neg e
theorem ufn_self {α : Type} (f : Nat → α) (k : Nat) : ufn f k (f k) = f := by
  funext j
  by_cases e : j = k
  · rw [e, ufn_eq]
  · rw [ufn_ne e]
theorem ufn_ufn {α : Type} (f : Nat → α) (k : Nat) (v w : α) : ufn (ufn f k v) k w = ufn f k w := by
  funext j
  by_cases e : j = k
  · rw [e, ufn_eq, ufn_eq]
  · rw [ufn_ne e, ufn_ne e, ufn_ne e]
def oth (f : Nat → Nat) (k : Nat) : Nat := if k = 0 then f 1 + f 2 else if k = 1 then f 0 + f 2 else f 0 + f 1
theorem oth_tot (f : Nat → Nat) {k : Nat} (hk : k < 3) : f k + oth f k = f 0 + f 1 + f 2 := by
  unfold oth
  have : k = 0 ∨ k = 1 ∨ k = 2 := by omega
  rcases this with rfl | rfl | rfl
  · rw [if_pos rfl]; omega
  · rw [if_neg (by decide), if_pos rfl]; omega
  · rw [if_neg (by decide), if_neg (by decide)]; omega
theorem oth_congr {f g : Nat → Nat} {k : Nat} (h : ∀ j, j < 3 → j ≠ k → f j = g j) : oth f k = oth g k := by
  unfold oth
  by_cases e0 : k = 0
  · rw [if_pos e0, if_pos e0, h 1 (by omega) (by omega), h 2 (by omega) (by omega)]
  · rw [if_neg e0, if_neg e0]
    by_cases e1 : k = 1
    · rw [if_pos e1, if_pos e1, h 0 (by omega) (by omega), h 2 (by omega) (by omega)]
    · by_cases e2 : k = 2
      · rw [if_neg e1, if_neg e1, h 0 (by omega) (by omega), h 1 (by omega) (by omega)]
      · rw [if_neg e1, if_neg e1, h 0 (by omega) (by omega), h 1 (by omega) (by omega)]
/-- a map's potential: cells, slots -/
def ptC (h : Hp) (n : Nat → Nat) (O : Nat → List Nat) (j : Nat) : Nat := lc h (O j) + 3000 * rk (n j)
def ptS (h : Hp) (n : Nat → Nat) (O : Nat → List Nat) (j : Nat) : Nat := 11 * lc h (O j) + 40000 * rk (n j)
/-- a HashHall at xo: maps m, tables n, nodes O, pairs A; C cells and Q slots are kept for others -/
def RS (h : Hp) (xo : Nat) (m n : Nat → Nat) (O : Nat → List Nat) (A : Nat → List (Int32 × Int32)) (C Q : Nat) : Prop :=
  (kd h xo = 1 ∧ rf h 24 xo = some (m 0) ∧ rf h 25 xo = some (m 1) ∧ rf h 26 xo = some (m 2)) ∧
  (kd h (m 0) = 2 ∧ kd h (m 1) = 3 ∧ kd h (m 2) = 3 ∧ it h 21 (m 1) = 0 ∧ it h 21 (m 2) = 1) ∧
  (∀ k, k < 3 → MI h (m k) (n k) (O k) ∧ VW h (m k) ∧ (O k).map (pr h) = A k) ∧
  (∀ j k, j < 3 → k < 3 → j ≠ k → ∀ b, Own h (m j) (O j) b → ¬ Own h (m k) (O k) b) ∧
  nc h + (ptC h n O 0 + ptC h n O 1 + ptC h n O 2) + C ≤ 679679 ∧ ns h + (ptS h n O 0 + ptS h n O 1 + ptS h n O 2) + Q ≤ 7063211
theorem RS.bud {h : Hp} {xo : Nat} {m n : Nat → Nat} {O : Nat → List Nat} {A : Nat → List (Int32 × Int32)} {C Q k : Nat} (R : RS h xo m n O A C Q) (hk : k < 3) : Bud h (n k) (O k) (C + oth (ptC h n O) k) (Q + oth (ptS h n O) k) := by
  obtain ⟨-, -, -, -, r1, r2⟩ := R
  have e1 := oth_tot (ptC h n O) hk
  have e2 := oth_tot (ptS h n O) hk
  have z1 : ptC h n O k = lc h (O k) + 3000 * rk (n k) := rfl
  have z2 : ptS h n O k = 11 * lc h (O k) + 40000 * rk (n k) := rfl
  unfold Bud
  omega
theorem RS.own_ne {h : Hp} {xo : Nat} {m n : Nat → Nat} {O : Nat → List Nat} {A : Nat → List (Int32 × Int32)} {C Q j k : Nat} (R : RS h xo m n O A C Q) (hj : j < 3) (hk : k < 3) (e : j ≠ k) : m j ≠ m k := fun w => R.2.2.2.1 j k hj hk e (m k) (Or.inl w.symm) (Or.inl rfl)
/-- nothing of the maps changes -/
theorem RS.sam {h h' : Hp} {xo : Nat} {m n : Nat → Nat} {O : Nat → List Nat} {A : Nat → List (Int32 × Int32)} {C Q C' Q' : Nat} (R : RS h xo m n O A C Q) (f : Fr h h') (S : ∀ k, k < 3 → Sam h h' (m k) (O k)) (V : ∀ k, k < 3 → VW h' (m k)) (b1 : nc h' + C' ≤ nc h + C) (b2 : ns h' + Q' ≤ ns h + Q) : RS h' xo m n O A C' Q' := by
  obtain ⟨⟨r1, r2, r3, r4⟩, ⟨t0, t1, t2, t3, t4⟩, r5, r6, r7, r8⟩ := R
  have fx : ∀ g, rf h' g xo = rf h g xo := fun g => (f.2 g xo (Or.inl r1)).1
  have sm : ∀ k, k < 3 → ∀ g, rf h' g (m k) = rf h g (m k) ∧ it h' g (m k) = it h g (m k) := fun k hk g => (S k hk).2.2 g (m k) (Or.inl rfl)
  have km : ∀ k, k < 3 → kd h' (m k) = kd h (m k) := fun k hk => ((S k hk).1.1 (m k) (by have := (r5 k hk).1.kdm; omega)).1
  have MS := fun k (hk : k < 3) => (r5 k hk).1.sam (S k hk)
  have ow : ∀ k, k < 3 → ∀ b, Own h' (m k) (O k) b → Own h (m k) (O k) b := fun k hk b hb => by
    rcases hb with w | w | w
    · exact Or.inl w
    · exact Or.inr (Or.inl w)
    · exact Or.inr (Or.inr (by rw [← (sm k hk 13).1]; exact w))
  have e1 : ∀ k, k < 3 → ptC h' n O k = ptC h n O k := fun k hk => by unfold ptC; rw [(MS k hk).2.2]
  have e2 : ∀ k, k < 3 → ptS h' n O k = ptS h n O k := fun k hk => by unfold ptS; rw [(MS k hk).2.2]
  refine ⟨⟨by rw [(f.1.1 xo (by omega)).1]; exact r1, by rw [fx]; exact r2, by rw [fx]; exact r3, by rw [fx]; exact r4⟩, ⟨by rw [km 0 (by omega)]; exact t0, by rw [km 1 (by omega)]; exact t1, by rw [km 2 (by omega)]; exact t2, by rw [(sm 1 (by omega) 21).2]; exact t3, by rw [(sm 2 (by omega) 21).2]; exact t4⟩, fun k hk => ⟨(MS k hk).1, V k hk, ?_⟩, fun j k hj hk e b w1 w2 => r6 j k hj hk e b (ow j hj b w1) (ow k hk b w2), ?_, ?_⟩
  · rw [← (r5 k hk).2.2]
    exact List.map_congr_left (MS k hk).2.1
  · rw [e1 0 (by omega), e1 1 (by omega), e1 2 (by omega)]; omega
  · rw [e2 0 (by omega), e2 1 (by omega), e2 2 (by omega)]; omega
theorem RS.nws {h h' : Hp} {xo : Nat} {m n : Nat → Nat} {O : Nat → List Nat} {A : Nat → List (Int32 × Int32)} {C Q C' Q' : Nat} (R : RS h xo m n O A C Q) (s : Nws h h') (b1 : nc h' + C' ≤ nc h + C) (b2 : ns h' + Q' ≤ ns h + Q) : RS h' xo m n O A C' Q' :=
  R.sam s.fr (fun k hk => (R.2.2.1 k hk).1.nws s) (fun k hk => (R.2.2.1 k hk).2.1.nws (R.2.2.1 k hk).1.kdm s) b1 b2
/-- an iterator is written -/
theorem RS.itc {h h' : Hp} {xo a : Nat} {m n : Nat → Nat} {O : Nat → List Nat} {A : Nat → List (Int32 × Int32)} {C Q : Nat} (R : RS h xo m n O A C Q) (c : Chg (fun _ b => b = a) h h') (ka : 11 ≤ kd h a ∧ kd h a ≤ 13) : RS h' xo m n O A C Q :=
  R.sam (c.fr (by omega)) (fun k hk => (R.2.2.1 k hk).1.off c (by omega)) (fun k hk => (R.2.2.1 k hk).2.1.chg (R.2.2.1 k hk).1.kdm c (by omega)) (by rw [c.2.2.1]; exact Nat.le_refl _) (by rw [c.2.2.2.1]; exact Nat.le_refl _)
/-- one map takes a step -/
theorem RS.step {h h' : Hp} {xo : Nat} {m n : Nat → Nat} {O : Nat → List Nat} {A : Nat → List (Int32 × Int32)} {C Q C' Q' k n' : Nat} {O' : List Nat} {A' : List (Int32 × Int32)} (R : RS h xo m n O A C Q) (hk : k < 3) (s : Ost h h' (m k) (O k) O') (M' : MI h' (m k) n' O') (V' : VW h' (m k)) (eA : O'.map (pr h') = A') (B' : Bud h' n' O' (C' + oth (ptC h n O) k) (Q' + oth (ptS h n O) k)) : RS h' xo m (ufn n k n') (ufn O k O') (ufn A k A') C' Q' := by
  obtain ⟨⟨r1, r2, r3, r4⟩, ⟨t0, t1, t2, t3, t4⟩, r5, r6, r7, r8⟩ := R
  have Mk := (r5 k hk).1
  have f := s.fr Mk
  have S : ∀ j, j < 3 → j ≠ k → Sam h h' (m j) (O j) := fun j hj e => s.sam Mk (r5 j hj).1 (r6 k j hk hj (fun w => e w.symm))
  have fx : ∀ g, rf h' g xo = rf h g xo := fun g => (f.2 g xo (Or.inl r1)).1
  have km : ∀ j, j < 3 → kd h' (m j) = kd h (m j) := fun j hj => (s.1.1 (m j) (by have := (r5 j hj).1.kdm; omega)).1
  have s21 : ∀ j, j < 3 → it h' 21 (m j) = it h 21 (m j) := fun j hj => by
    by_cases e : j = k
    · rw [e]; exact s.2.2.2.2
    · exact ((S j hj e).2.2 21 (m j) (Or.inl rfl)).2
  have MS := fun j (hj : j < 3) (e : j ≠ k) => (r5 j hj).1.sam (S j hj e)
  have ow : ∀ j, j < 3 → j ≠ k → ∀ b, Own h' (m j) (O j) b → Own h (m j) (O j) b := fun j hj e b hb => by
    rcases hb with w | w | w
    · exact Or.inl w
    · exact Or.inr (Or.inl w)
    · exact Or.inr (Or.inr (by rw [← ((S j hj e).2.2 13 (m j) (Or.inl rfl)).1]; exact w))
  have owk : ∀ b, Own h' (m k) O' b → Own h (m k) (O k) b ∨ kd h b = 0 := fun b hb => by
    rcases hb with w | w | w
    · exact Or.inl (Or.inl w)
    · rcases s.2.2.1 b w with z | z
      · exact Or.inl (Or.inr (Or.inl z))
      · exact Or.inr z
    · rcases s.2.2.2.1 b w with z | z
      · exact Or.inl (Or.inr (Or.inr z))
      · exact Or.inr z
  have dis : ∀ j, j < 3 → j ≠ k → ∀ b, Own h' (m k) O' b → ¬ Own h' (m j) (O j) b := fun j hj e b w1 w2 => by
    have w2 := ow j hj e b w2
    rcases owk b w1 with z | z
    · exact r6 k j hk hj (fun w => e w.symm) b z w2
    · have := (r5 j hj).1.ownk w2
      omega
  have e1 : oth (ptC h n O) k = oth (ptC h' (ufn n k n') (ufn O k O')) k := oth_congr (fun j hj e => by unfold ptC; rw [ufn_ne e, ufn_ne e, (MS j hj e).2.2])
  have e2 : oth (ptS h n O) k = oth (ptS h' (ufn n k n') (ufn O k O')) k := oth_congr (fun j hj e => by unfold ptS; rw [ufn_ne e, ufn_ne e, (MS j hj e).2.2])
  have z1 : ptC h' (ufn n k n') (ufn O k O') k = lc h' O' + 3000 * rk n' := by unfold ptC; rw [ufn_eq, ufn_eq]
  have z2 : ptS h' (ufn n k n') (ufn O k O') k = 11 * lc h' O' + 40000 * rk n' := by unfold ptS; rw [ufn_eq, ufn_eq]
  have y1 := oth_tot (ptC h' (ufn n k n') (ufn O k O')) hk
  have y2 := oth_tot (ptS h' (ufn n k n') (ufn O k O')) hk
  refine ⟨⟨by rw [(f.1.1 xo (by omega)).1]; exact r1, by rw [fx]; exact r2, by rw [fx]; exact r3, by rw [fx]; exact r4⟩, ⟨by rw [km 0 (by omega)]; exact t0, by rw [km 1 (by omega)]; exact t1, by rw [km 2 (by omega)]; exact t2, by rw [s21 1 (by omega)]; exact t3, by rw [s21 2 (by omega)]; exact t4⟩, fun j hj => ?_, fun i j hi hj e b w1 w2 => ?_, ?_, ?_⟩
  · by_cases e : j = k
    · rw [e, ufn_eq, ufn_eq, ufn_eq]; exact ⟨M', V', eA⟩
    · rw [ufn_ne e, ufn_ne e, ufn_ne e]
      refine ⟨(MS j hj e).1, s.vw Mk (r5 j hj).2.1 (r5 j hj).1.kdm (fun w => r6 k j hk hj (fun w => e w.symm) (m j) w (Or.inl rfl)), ?_⟩
      rw [← (r5 j hj).2.2]
      exact List.map_congr_left (MS j hj e).2.1
  · by_cases ei : i = k
    · have ej : j ≠ k := fun w => e (ei.trans w.symm)
      rw [ei, ufn_eq] at w1
      rw [ufn_ne ej] at w2
      exact dis j hj ej b w1 w2
    · rw [ufn_ne ei] at w1
      by_cases ej : j = k
      · rw [ej, ufn_eq] at w2
        exact dis i hi ei b w2 w1
      · rw [ufn_ne ej] at w2
        exact r6 i j hi hj e b (ow i hi ei b w1) (ow j hj ej b w2)
  · unfold Bud at B'
    rw [e1] at B'
    omega
  · unfold Bud at B'
    rw [e2] at B'
    omega
