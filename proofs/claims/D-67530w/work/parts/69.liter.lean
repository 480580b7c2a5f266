/-! THE LINKED ITERATOR -/
set_option maxRecDepth 100000
/-- an iterator at the cell a over the map m; R: what is still to come -/
def LI (h : Hp) (a m : Nat) (O R : List Nat) : Prop := kd h a = 13 ∧ rf h 40 a = some m ∧ it h 39 a = 0 ∧ it h 38 a = it h 16 m ∧ rf h 36 a = R.head? ∧ ∃ X, O = X ++ R
theorem s_J18_hasNext {h : Hp} {a m : Nat} {O R : List Nat} {K : Int32 → Hp → Prop} (k : LI h a m O R) (f0 : R = [] → K 0 h) (f1 : ∀ p R', R = p :: R' → K 1 h) : wp_J18_hasNext h (some a) K := by
  unfold wp_J18_hasNext wp_J18_hasNext_b12
  have e := k.2.2.2.2.1
  refine ⟨a, rfl, fun w => ⟨Or.inl rfl, ?_⟩, fun b hb => ⟨Or.inr rfl, ?_⟩⟩
  · rw [e] at w
    cases R with
    | nil => exact f0 rfl
    | cons p R => cases w
  · rw [e] at hb
    cases R with
    | nil => cases hb
    | cons p R => exact f1 p R rfl
theorem s_J19_next {h : Hp} {a m n p : Nat} {O R : List Nat} {K : Option Nat → Hp → Prop} (k : LI h a m O (p :: R)) (M : MI h m n O) (h3 : kd h m = 3) (fin : ∀ h', Chg (fun _ b => b = a) h h' → LI h' a m O R → rf h' 37 a = some p → K (some p) h') : wp_J19_next h (some a) K := by
  obtain ⟨k1, k2, k3, k4, k5, X, k6⟩ := k
  obtain ⟨bn, kb⟩ := id M.1
  have d := kb.2.2.2.2.2.1 h3
  have pO : p ∈ O := by rw [k6]; simp
  have pa : p ≠ a := fun w => by have := kb.2.2.2.1 p pO; rw [w] at this; omega
  have ma : m ≠ a := fun w => by rw [w] at h3; omega
  have p5 : rf h 5 p = R.head? := by
    have := d
    rw [k6] at this
    exact this.at.2
  unfold wp_J19_next
  refine ⟨a, rfl, ?_⟩
  unfold wp_J19_next_2
  refine ⟨a, rfl, ?_⟩
  unfold wp_J18_nextNode
  refine ⟨a, rfl, m, k2, fun _ => ⟨(fun w => by rw [k5] at w; cases w), fun b hb => ?_⟩, fun w => absurd k4.symm w⟩
  rw [k5] at hb
  cases hb
  rintro h1 rfl _
  rw [k5]
  have e39 : it (wR h 37 a (some p)) 39 a = 0 := k3
  refine ⟨fun _ => ?_, fun w => absurd e39 w⟩
  unfold wp_J18_nextNode_b63
  refine ⟨a, rfl, ?_⟩
  rintro h2 rfl
  intro _ _
  have c : Chg (fun _ b => b = a) h (wR (wR h 37 a (some p)) 36 a (rf (wR h 37 a (some p)) 5 p)) := ((Chg.refl (fun _ b => b = a) h).wR _ rfl).wR _ rfl
  refine fin _ c ⟨k1, ?_, k3, k4, ?_, X ++ [p], by rw [k6]; simp⟩ ?_
  · rw [rf_wR, if_neg (by omega), rf_wR, if_neg (by omega)]; exact k2
  · rw [rf_wR, if_pos ⟨rfl, rfl⟩, rf_wR, if_neg (by omega)]; exact p5
  · rw [rf_wR, if_neg (by omega), rf_wR, if_pos ⟨rfl, rfl⟩]; rfl

theorem MB.kinj {h : Hp} {m n : Nat} {bn : Nat → List Nat} {O : List Nat} (kb : MB h m n bn O) {x y : Nat} (hx : x ∈ O) (hy : y ∈ O) (e : keyI h x = keyI h y) : x = y := by
  have n0 : rf h 13 m ≠ none := fun q => by
    rcases kb.2.2.2.2.1 with w | ⟨e, t, w1, w2, w3, w4⟩
    · have hO : O = [] := by
        have := kb.2.2.1.length_eq
        rw [w.1] at this
        exact List.eq_nil_of_length_eq_zero this
      rw [hO] at hx; cases hx
    · rw [q] at w3; cases w3
  obtain ⟨t, ht⟩ := Option.ne_none_iff_exists'.mp n0
  obtain ⟨w1, w2⟩ := key_bin (z := spr (keyI h x)) kb ht rfl rfl hx rfl
  obtain ⟨w3, w4⟩ := key_bin (z := spr (keyI h x)) kb ht rfl rfl hy e.symm
  obtain ⟨T, n0, n1⟩ := kb.tab ht
  have hd := (T.2.2 _ (ix_ok (n := n) (spr (keyI h x)) n0 (by omega)).2).2.2.1
  have inj : ∀ (A : List Nat), HD h A → x ∈ A → y ∈ A → x = y := by
    intro A
    induction A with
    | nil => intro _ w; cases w
    | cons a A ih =>
      intro hd hp hq
      have hd := List.pairwise_cons.mp hd
      rcases List.mem_cons.mp hp with u | u <;> rcases List.mem_cons.mp hq with v | v
      · rw [u, v]
      · exact absurd (by rw [← u, w2, w4]) (hd.1 y v)
      · exact absurd (by rw [← v, w2, w4]) (hd.1 x u)
      · exact ih hd.2 u v
  exact inj _ hd w1 w3
theorem s_J18_remove {h : Hp} {a m n p C Q : Nat} {O X R : List Nat} {K : Hp → Prop} (k : LI h a m O R) (M : MI h m n O) (hl : O.length ≤ 1464) (h37 : rf h 37 a = some p) (eO : O = X ++ p :: R) (B : Bud h n O C Q)
    (fin : ∀ h1 h2 h', Chg (fun _ b => b = a) h h1 → Mst h1 h2 m O (X ++ R) → Chg (fun _ b => b = a) h2 h' → MI h' m n (X ++ R) → LI h' a m (X ++ R) R → (X ++ R).map (pr h') = (X ++ R).map (pr h) → Bud h' n (X ++ R) C Q → K h') : wp_J18_remove h (some a) K := by
  obtain ⟨k1, k2, k3, k4, k5, -⟩ := id k
  have c1 : Chg (fun _ b => b = a) h (wR h 37 a none) := (Chg.refl (fun _ b => b = a) h).wR _ rfl
  have S1 := M.off c1 (by omega)
  obtain ⟨M1, P1, L1⟩ := M.sam S1
  obtain ⟨bn, kb⟩ := id M1.1
  have pO : p ∈ O := by rw [eO]; simp
  obtain ⟨kc, hkc, hk4, hks⟩ := (kb.ok p pO).1
  have B1 : Bud (wR h 37 a none) n O C Q := by
    unfold Bud at B ⊢
    rw [L1]; exact B
  have nd := kb.2.1
  have fO : flt p O = X ++ R := by rw [eO] at nd ⊢; exact flt_mid nd
  have a40 : rf (wR h 37 a none) 40 a = some m := by rw [rf_wR, if_neg (by omega)]; exact k2
  have aown : ¬ Own (wR h 37 a none) m O a := fun w => by
    have := M1.ownk w
    have ka : kd (wR h 37 a none) a = 13 := k1
    omega
  have a0 : kd (wR h 37 a none) a ≠ 0 := by rw [show kd (wR h 37 a none) a = kd h a from rfl, k1]; decide
  have key : keyI (wR h 37 a none) p = it (wR h 37 a none) 23 kc := by unfold keyI; rw [hkc]
  unfold wp_J18_remove
  refine ⟨a, rfl, (fun w => by rw [h37] at w; cases w), fun p' e => ?_⟩
  rw [h37] at e
  cases e
  refine ⟨m, k2, fun _ => ?_, fun w => absurd k4.symm w⟩
  rintro h1 rfl
  refine ⟨m, a40, ?_⟩
  rw [a40, hkc]
  refine s_removeNode (v := 0) M1 kb hl hks (fun _ => B1) (fun w => absurd rfl w) (fun w => absurd rfl w) (fun q hq e _ h2 O2 i L2 _ _ q1 _ q3 q4 _ q6 q7 _ => ?_) (fun ne => absurd rfl (ne p pO key).1)
  have qp : q = p := kb.kinj hq pO (e.trans key.symm)
  subst qp
  obtain ⟨e2, -⟩ := q6 rfl
  rw [fO] at e2 q4
  subst e2
  have fa : ∀ f, rf h2 f a = rf (wR h 37 a none) f a ∧ it h2 f a = it (wR h 37 a none) f a := fun f => q3.2.1 f a a0 (fun w => aown (Or.inl w)) (fun w => aown (Or.inr (Or.inl w))) (fun w => aown (Or.inr (Or.inr w)))
  have ka2 : kd h2 a = 13 := by rw [(q3.1.1 a a0).1]; exact k1
  have ma : m ≠ a := fun w => aown (Or.inl w.symm)
  refine ⟨m, by rw [(fa 40).1]; exact a40, ?_⟩
  rintro h3 rfl
  have c3 : Chg (fun _ b => b = a) h2 (wI h2 38 a (it h2 16 m)) := (Chg.refl (fun _ b => b = a) h2).wI _ rfl
  have S3 := q1.off c3 (by omega)
  obtain ⟨M3, P3, L3⟩ := q1.sam S3
  refine fin _ h2 _ c1 q3 c3 M3 ⟨ka2, ?_, ?_, ?_, ?_, X, rfl⟩ ?_ ?_
  · show rf h2 40 a = _
    rw [(fa 40).1]; exact a40
  · rw [it_wI, if_neg (by omega), (fa 39).2]; exact k3
  · rw [it_wI, if_pos ⟨rfl, rfl⟩, it_wI, if_neg (by omega)]
  · show rf h2 36 a = _
    rw [(fa 36).1, rf_wR, if_neg (by omega)]; exact k5
  · rw [List.map_congr_left P3, q4]
    exact List.map_congr_left (fun x hx => P1 x (by rw [eO]; rcases List.mem_append.mp hx with w | w <;> simp [w]))
  · unfold Bud at q7 ⊢
    rw [L3]; exact q7
