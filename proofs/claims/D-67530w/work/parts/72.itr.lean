/-! ITERATORS OVER ENTRIES, of both kinds of maps -/
set_option maxRecDepth 100000
/-- an iterator over the entries of m; R: what is still to come -/
def Itr (h : Hp) (a m n : Nat) (O R : List Nat) : Prop := (kd h m = 2 ∧ kd h a = 12 ∧ R.Nodup ∧ (∀ x ∈ R, x ∈ O) ∧ ∃ bn, MB h m n bn O ∧ HI h a m n bn R) ∨ (kd h m = 3 ∧ LI h a m O R)
theorem it_has {h : Hp} {a m n : Nat} {O R : List Nat} {G : Int32 → Hp → Prop} (k : Itr h a m n O R) (f0 : R = [] → G 0 h) (f1 : ∀ p R', R = p :: R' → G 1 h) :
    (∃ a137, some a = some a137 ∧ (kd h a137 ∈ [11, 12] ∧ (wp_J15_hasNext h (some a) (fun r140 h141 => Ex h h141 → G r140 h141)))) ∨ (∃ a144, some a = some a144 ∧ (kd h a144 = 13 ∧ (wp_J18_hasNext h (some a) (fun r147 h148 => Ex h h148 → G r147 h148)))) := by
  rcases k with ⟨-, k1, -, -, bn, kb, k2⟩ | ⟨-, k2⟩
  · exact Or.inl ⟨a, rfl, by rw [k1]; decide, s_J15_hasNext k2 (fun e _ => f0 e) (fun p R' e _ => f1 p R' e)⟩
  · exact Or.inr ⟨a, rfl, k2.1, s_J18_hasNext k2 (fun e _ => f0 e) (fun p R' e _ => f1 p R' e)⟩
theorem it_next {h : Hp} {a m n p : Nat} {O R : List Nat} {G : Option Nat → Hp → Prop} (k : Itr h a m n O (p :: R)) (M : MI h m n O) (fin : ∀ h', Chg (fun _ b => b = a) h h' → Itr h' a m n O R → (rf h' 32 a = some p ∧ kd h m = 2 ∨ rf h' 37 a = some p ∧ kd h m = 3) → p ∈ O → p ∉ R → G (some p) h') :
    ((∃ a152, some a = some a152 ∧ (kd h a152 = 11 ∧ (wp_J17_next h (some a) (fun r155 h156 => Ex h h156 → G r155 h156)))) ∨ (∃ a159, some a = some a159 ∧ (kd h a159 = 12 ∧ (wp_J16_next h (some a) (fun r162 h163 => Ex h h163 → G r162 h163)))) ∨ (∃ a166, some a = some a166 ∧ (kd h a166 = 13 ∧ (wp_J19_next h (some a) (fun r169 h170 => Ex h h170 → G r169 h170))))) := by
  rcases k with ⟨k0, k1, k2, k3, bn, kb, k4⟩ | ⟨k0, k2⟩
  · refine Or.inr (Or.inl ⟨a, rfl, k1, ?_⟩)
    unfold wp_J16_next
    refine ⟨a, rfl, ?_⟩
    unfold wp_J16_next_2
    refine ⟨a, rfl, s_J15_nextNode k4 kb (fun h' c H e _ _ _ => ?_)⟩
    have S := M.off c (by omega)
    refine fin h' c (Or.inl ⟨by rw [c.1]; exact k0, by rw [c.1]; exact k1, (List.nodup_cons.mp k2).2, fun x hx => k3 x (List.mem_cons_of_mem _ hx), bn, kb.sam S, H⟩) (Or.inl ⟨e, k0⟩) (k3 p List.mem_cons_self) (List.nodup_cons.mp k2).1
  · obtain ⟨bn, kb⟩ := id M.1
    obtain ⟨X, e⟩ := k2.2.2.2.2.2
    have nd := kb.2.1
    rw [e] at nd
    refine Or.inr (Or.inr ⟨a, rfl, k2.1, s_J19_next k2 M k0 (fun h' c H e37 _ => ?_)⟩)
    exact fin h' c (Or.inr ⟨by rw [c.1]; exact k0, H⟩) (Or.inr ⟨e37, k0⟩) (by rw [e]; simp) (List.nodup_cons.mp (List.nodup_append.mp nd).2.1).1
theorem it_remove {h : Hp} {a m n p C Q : Nat} {O R : List Nat} {G : Hp → Prop} (k : Itr h a m n O R) (M : MI h m n O) (hl : O.length ≤ 1464) (cur : rf h 32 a = some p ∧ kd h m = 2 ∨ rf h 37 a = some p ∧ kd h m = 3) (pO : p ∈ O) (pR : p ∉ R) (last : kd h m = 3 → ∃ X, O = X ++ p :: R) (B : Bud h n O C Q)
    (fin : ∀ h1 h2 h', Chg (fun _ b => b = a) h h1 → Mst h1 h2 m O (flt p O) → Chg (fun _ b => b = a) h2 h' → MI h' m n (flt p O) → Itr h' a m n (flt p O) R → (flt p O).map (pr h') = (flt p O).map (pr h) → Bud h' n (flt p O) C Q → G h') :
    (∃ a186, some a = some a186 ∧ (kd h a186 ∈ [11, 12] ∧ (wp_J15_remove h (some a) (fun h190 => Ex h h190 → G h190)))) ∨ (∃ a193, some a = some a193 ∧ (kd h a193 = 13 ∧ (wp_J18_remove h (some a) (fun h197 => Ex h h197 → G h197)))) := by
  rcases k with ⟨k0, k1, k2, k3, bn, kb, k4⟩ | ⟨k0, k2⟩
  · have c32 : rf h 32 a = some p := by
      rcases cur with w | w
      · exact w.1
      · omega
    refine Or.inl ⟨a, rfl, by rw [k1]; decide, s_J15_remove k4 M kb hl c32 pO pR B (fun h1 h2 h' bn' c1 S2 c3 M3 B3 H P BB _ => ?_)⟩
    have m0 : kd h m ≠ 0 := by omega
    have ea : kd h' a = kd h a := by
      rw [c3.1, (S2.1.1 a (by rw [c1.1]; omega)).1, c1.1]
    have em : kd h' m = kd h m := by
      rw [c3.1, (S2.1.1 m (by rw [c1.1]; omega)).1, c1.1]
    exact fin h1 h2 h' c1 S2 c3 M3 (Or.inl ⟨by rw [em]; exact k0, by rw [ea]; exact k1, k2, fun x hx => mem_flt.mpr ⟨k3 x hx, fun w => pR (w ▸ hx)⟩, bn', B3, H⟩) P BB
  · have c37 : rf h 37 a = some p := by
      rcases cur with w | w
      · omega
      · exact w.1
    obtain ⟨X, e⟩ := last k0
    obtain ⟨bn, kb⟩ := id M.1
    have nd := kb.2.1
    have fO : flt p O = X ++ R := by rw [e] at nd ⊢; exact flt_mid nd
    rw [fO] at fin
    refine Or.inr ⟨a, rfl, k2.1, s_J18_remove k2 M hl c37 e B (fun h1 h2 h' c1 S2 c3 M3 H P BB _ => ?_)⟩
    have em : kd h' m = kd h m := by
      rw [c3.1, (S2.1.1 m (by rw [c1.1]; omega)).1, c1.1]
    exact fin h1 h2 h' c1 S2 c3 M3 (Or.inr ⟨by rw [em]; exact k0, H⟩) P BB
