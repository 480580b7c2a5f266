/-! THE HASH ITERATOR -/
set_option maxRecDepth 100000
def restN (n idx : Nat) (bn : Nat → List Nat) : List Nat := nodes (n - idx) (fun i => bn (i + idx))
theorem restN_end (n : Nat) (bn : Nat → List Nat) : restN n n bn = [] := by unfold restN; rw [Nat.sub_self]; rfl
theorem nodes_cons (n : Nat) (g : Nat → List Nat) : nodes (n + 1) g = g 0 ++ nodes n (fun i => g (i + 1)) := by
  rw [Nat.add_comm, nodes_add g 1 n]
  congr 1
  unfold nodes
  simp
theorem restN_step {n idx : Nat} {bn : Nat → List Nat} (h : idx < n) : restN n idx bn = bn idx ++ restN n (idx + 1) bn := by
  unfold restN
  obtain ⟨d, hd⟩ : ∃ d, n - idx = d + 1 := ⟨n - idx - 1, by omega⟩
  rw [hd, nodes_cons, show n - (idx + 1) = d by omega]
  congr 1
  · rw [Nat.zero_add]
  · exact nodes_congr (fun i _ => by rw [Nat.add_assoc, Nat.add_comm 1 idx])
theorem restN_all (n : Nat) (bn : Nat → List Nat) : restN n 0 bn = nodes n bn := by
  unfold restN
  rw [Nat.sub_zero]; rfl
theorem mem_restN {n idx : Nat} {bn : Nat → List Nat} {x : Nat} : x ∈ restN n idx bn ↔ ∃ i, idx ≤ i ∧ i < n ∧ x ∈ bn i := by
  unfold restN
  rw [mem_nodes]
  constructor
  · rintro ⟨i, h1, h2⟩
    exact ⟨i + idx, by omega, by omega, h2⟩
  · rintro ⟨i, h1, h2, h3⟩
    exact ⟨i - idx, by omega, by rw [Nat.sub_add_cancel h1]; exact h3⟩
/-- an iterator at the cell a over the map m; R: what is still to come -/
def HI (h : Hp) (a m n : Nat) (bn : Nat → List Nat) (R : List Nat) : Prop := (kd h a = 11 ∨ kd h a = 12) ∧ rf h 35 a = some m ∧ it h 33 a = it h 16 m ∧ rf h 31 a = R.head? ∧ ∃ idx Y, it h 34 a = nI idx ∧ idx ≤ n ∧ R = Y ++ restN n idx bn ∧ (Y = [] → R = []) ∧ (Y = [] ∨ ∃ j X, j < idx ∧ bn j = X ++ Y)
theorem s_J15_hasNext {h : Hp} {a m n : Nat} {bn : Nat → List Nat} {R : List Nat} {K : Int32 → Hp → Prop} (k : HI h a m n bn R) (f0 : R = [] → K 0 h) (f1 : ∀ p R', R = p :: R' → K 1 h) : wp_J15_hasNext h (some a) K := by
  unfold wp_J15_hasNext wp_J15_hasNext_b12
  have e := k.2.2.2.1
  refine ⟨a, rfl, fun w => ⟨Or.inl rfl, ?_⟩, fun b hb => ⟨Or.inr rfl, ?_⟩⟩
  · rw [e] at w
    cases R with
    | nil => exact f0 rfl
    | cons p R => cases w
  · rw [e] at hb
    cases R with
    | nil => cases hb
    | cons p R => exact f1 p R rfl
/-- the fields of the iterator's cell other than next and index -/
def Ifx (h h' : Hp) (a : Nat) : Prop := Chg (fun _ b => b = a) h h' ∧ (∀ g, g ≠ 34 → it h' g a = it h g a) ∧ (∀ g, g ≠ 31 → rf h' g a = rf h g a)
theorem Ifx.refl (h : Hp) (a : Nat) : Ifx h h a := ⟨Chg.refl _ h, fun _ _ => rfl, fun _ _ => rfl⟩
theorem Ifx.step {h h' : Hp} {a : Nat} (k : Ifx h h' a) (v : Int32) (w : Option Nat) : Ifx h (wR (wI h' 34 a v) 31 a w) a := by
  refine ⟨(k.1.wI _ rfl).wR _ rfl, fun g hg => ?_, fun g hg => ?_⟩
  · rw [it_wR, it_wI, if_neg (fun z => hg z.1)]; exact k.2.1 g hg
  · rw [rf_wR, if_neg (fun z => hg z.1), rf_wI]; exact k.2.2 g hg
/-- where the search for the next bin ends -/
def AdvE (h0 h : Hp) (a n idx : Nat) (bn : Nat → List Nat) : Prop := Ifx h0 h a ∧ ∃ idx' Y, it h 34 a = nI idx' ∧ idx' ≤ n ∧ restN n idx bn = Y ++ restN n idx' bn ∧ rf h 31 a = (restN n idx bn).head? ∧ (Y = [] → restN n idx bn = []) ∧ (Y = [] ∨ ∃ j X, j < idx' ∧ bn j = X ++ Y)
theorem adv_step {h0 h : Hp} {a t n lk : Nat} {bn : Nat → List Nat} {G E : Hp → Prop} (T : Tab h0 lk t n bn) (hn : n ≤ 2048) (ta : t ≠ a) (idx : Nat) (f : Ifx h0 h a) (e34 : it h 34 a = nI idx) (hi : idx ≤ n) (e31 : rf h 31 a = none)
    (next : idx < n → ∀ h', Ifx h0 h' a → it h' 34 a = nI (idx + 1) → rf h' 31 a = none → bn idx = [] → G h') (fin : ∀ h', AdvE h0 h' a n idx bn → E h') :
    (ln h t < 2 ^ 26 → (((nI (ln h t)) ≤ (it h 34 a) → E h) ∧ (¬ (nI (ln h t)) ≤ (it h 34 a) → (∀ h70, h70 = wI h 34 a ((it h 34 a) + 1) → (∃ j71, (it h 34 a) = nI j71 ∧ j71 < ln h70 t ∧ (∀ h74, h74 = wR h70 31 a (rf h70 (100 + j71) t) → (((rf h70 (100 + j71) t) = none → G h74) ∧ (∀ a76, (rf h70 (100 + j71) t) = some a76 → E h74)))))))) := by
  intro _
  rw [f.1.2.1 t, T.2.1, e34]
  refine ⟨fun q => ?_, fun q => ?_⟩
  · rw [nI_leI (by omega) (by omega)] at q
    have : idx = n := by omega
    subst this
    refine fin h ⟨f, idx, [], e34, hi, rfl, by rw [e31, restN_end]; rfl, fun _ => restN_end _ _, Or.inl rfl⟩
  · rw [nI_leI (by omega) (by omega)] at q
    have hlt : idx < n := by omega
    obtain ⟨b1, b2⟩ := T.2.2 idx hlt
    rintro h1 rfl
    refine ⟨idx, rfl, by show idx < ln h t; rw [f.1.2.1 t, T.2.1]; exact hlt, ?_⟩
    have et : rf (wI h 34 a (nI idx + 1)) (100 + idx) t = (bn idx).head? := by
      show rf h (100 + idx) t = _
      rw [f.1.rf ta]; exact b1
    rintro h2 rfl
    rw [et]
    have f2 := f.step (nI idx + 1) (bn idx).head?
    have g34 : it (wR (wI h 34 a (nI idx + 1)) 31 a (bn idx).head?) 34 a = nI (idx + 1) := by
      rw [it_wR, it_wI, if_pos ⟨rfl, rfl⟩, ← nI_add]; rfl
    have g31 : rf (wR (wI h 34 a (nI idx + 1)) 31 a (bn idx).head?) 31 a = (bn idx).head? := by rw [rf_wR, if_pos ⟨rfl, rfl⟩]
    refine ⟨fun w => ?_, fun x hx => ?_⟩
    · have hb : bn idx = [] := by
        cases e : bn idx with
        | nil => rfl
        | cons x X => rw [e] at w; cases w
      exact next hlt _ f2 g34 (by rw [g31, hb]; rfl) hb
    · have hne : bn idx ≠ [] := fun w => by rw [w] at hx; cases hx
      refine fin _ ⟨f2, idx + 1, bn idx, g34, by omega, restN_step hlt, ?_, fun w => absurd w hne, Or.inr ⟨idx, [], by omega, rfl⟩⟩
      rw [g31, restN_step hlt]
      cases e : bn idx with
      | nil => exact absurd e hne
      | cons y Y => rfl
theorem AdvE.pre {h0 h : Hp} {a n idx : Nat} {bn : Nat → List Nat} (k : AdvE h0 h a n (idx + 1) bn) (hi : idx < n) (hb : bn idx = []) : AdvE h0 h a n idx bn := by
  obtain ⟨k1, idx', Y, k2, k3, k4, k5, k6, k7⟩ := k
  have e : restN n idx bn = restN n (idx + 1) bn := by rw [restN_step hi, hb]; rfl
  exact ⟨k1, idx', Y, k2, k3, by rw [e]; exact k4, by rw [e]; exact k5, by rw [e]; exact k6, k7⟩
theorem adv_next {h0 : Hp} {a t n lk : Nat} {bn : Nat → List Nat} {K : Option Nat → Hp → Prop} {l2 : Option Nat} (T : Tab h0 lk t n bn) (hn : n ≤ 2048) (ta : t ≠ a) :
    ∀ (f idx : Nat) (h : Hp), n + 1 ≤ f + idx → Ifx h0 h a → it h 34 a = nI idx → idx ≤ n → rf h 31 a = none → (∀ h', AdvE h0 h' a n idx bn → K l2 h') → wp_J15_nextNode_b68 K f h (some a) (some t) l2
  | 0, idx, h, hf, k, e34, hi, e31, fin => by omega
  | f + 1, idx, h, hf, k, e34, hi, e31, fin => by
    unfold wp_J15_nextNode_b68 wp_J15_nextNode_b98
    refine ⟨a, rfl, t, rfl, ?_⟩
    exact adv_step (G := fun h' => wp_J15_nextNode_b68 K f h' (some a) (some t) l2) (E := fun h' => K l2 h') T hn ta idx k e34 hi e31 (fun hlt h' k' g34 g31 hb => adv_next T hn ta f (idx + 1) h' (by omega) k' g34 (by omega) g31 (fun h2 q => fin h2 (q.pre hlt hb))) fin
theorem adv_init {h0 : Hp} {a t n lk : Nat} {bn : Nat → List Nat} {K : Hp → Prop} (T : Tab h0 lk t n bn) (hn : n ≤ 2048) (ta : t ≠ a) :
    ∀ (f idx : Nat) (h : Hp), n + 1 ≤ f + idx → Ifx h0 h a → it h 34 a = nI idx → idx ≤ n → rf h 31 a = none → (∀ h', AdvE h0 h' a n idx bn → K h') → wp_J15_init_b48 K f h (some a) (some t)
  | 0, idx, h, hf, k, e34, hi, e31, fin => by omega
  | f + 1, idx, h, hf, k, e34, hi, e31, fin => by
    unfold wp_J15_init_b48 wp_J15_init_b78
    refine ⟨a, rfl, t, rfl, ?_⟩
    exact adv_step (G := fun h' => wp_J15_init_b48 K f h' (some a) (some t)) (E := fun h' => K h') T hn ta idx k e34 hi e31 (fun hlt h' k' g34 g31 hb => adv_init T hn ta f (idx + 1) h' (by omega) k' g34 (by omega) g31 (fun h2 q => fin h2 (q.pre hlt hb))) fin
theorem s_J15_nextNode {h : Hp} {a m n p : Nat} {bn : Nat → List Nat} {O R : List Nat} {K : Option Nat → Hp → Prop} (k : HI h a m n bn (p :: R)) (kb : MB h m n bn O) (fin : ∀ h', Chg (fun _ b => b = a) h h' → HI h' a m n bn R → rf h' 32 a = some p → K (some p) h') : wp_J15_nextNode h (some a) K := by
  obtain ⟨k1, k2, k3, k4, idx, Y, k5, k6, k7, k8, k9⟩ := k
  obtain ⟨Y', hY⟩ : ∃ Y', Y = p :: Y' := by
    cases Y with
    | nil => cases k8 rfl
    | cons y Y => rw [List.cons_append] at k7; cases k7; exact ⟨Y, rfl⟩
  subst hY
  have eR : R = Y' ++ restN n idx bn := by rw [List.cons_append] at k7; cases k7; rfl
  obtain ⟨j, X, hj, ej⟩ := k9.resolve_left (by simp)
  have hjn : j < n := by omega
  obtain ⟨t, ht⟩ : ∃ t, rf h 13 m = some t := by
    rcases kb.2.2.2.2.1 with w | ⟨e, t, w1, w2, w3, w4⟩
    · omega
    · exact ⟨t, w3⟩
  obtain ⟨T, n0, n1⟩ := kb.tab ht
  have b2 := (T.2.2 j hjn).2
  have p3 : rf h 3 p = Y'.head? := by
    have := b2.2.2.1
    rw [ej] at this
    have := NXs_at this
    simpa using this
  have pO : p ∈ O := kb.inO hjn p (by rw [ej]; simp)
  have pa : p ≠ a := fun w => by have := kb.2.2.2.1 p pO; rw [w] at this; omega
  have ta : t ≠ a := fun w => by have := T.1; rw [w] at this; omega
  have ma : m ≠ a := fun w => by have := kb.1; rw [w] at this; omega
  have k4 : rf h 31 a = some p := k4
  unfold wp_J15_nextNode
  refine ⟨a, rfl, m, k2, fun _ => ⟨(fun w => by rw [k4] at w; cases w), fun b hb => ?_⟩, fun w => absurd k3.symm w⟩
  rw [k4] at hb
  cases hb
  rintro h1 rfl
  rw [k4]
  have e3 : rf (wR h 32 a (some p)) 3 p = Y'.head? := by rw [rf_wR, if_neg (by omega)]; exact p3
  rintro h2 rfl
  have c2 : Chg (fun _ b => b = a) h (wR (wR h 32 a (some p)) 31 a (rf (wR h 32 a (some p)) 3 p)) := ((Chg.refl (fun _ b => b = a) h).wR _ rfl).wR _ rfl
  have g31 : rf (wR (wR h 32 a (some p)) 31 a (rf (wR h 32 a (some p)) 3 p)) 31 a = Y'.head? := by rw [rf_wR, if_pos ⟨rfl, rfl⟩, e3]
  have g32 : rf (wR (wR h 32 a (some p)) 31 a (rf (wR h 32 a (some p)) 3 p)) 32 a = some p := by rw [rf_wR, if_neg (by omega), rf_wR, if_pos ⟨rfl, rfl⟩]
  have g35 : rf (wR (wR h 32 a (some p)) 31 a (rf (wR h 32 a (some p)) 3 p)) 35 a = some m := by rw [rf_wR, if_neg (by omega), rf_wR, if_neg (by omega)]; exact k2
  have g13 : rf (wR (wR h 32 a (some p)) 31 a (rf (wR h 32 a (some p)) 3 p)) 13 m = some t := by rw [c2.rf ma]; exact ht
  have gi : ∀ f b, it (wR (wR h 32 a (some p)) 31 a (rf (wR h 32 a (some p)) 3 p)) f b = it h f b := fun _ _ => rfl
  rw [e3] at c2 g31 g32 g35 g13 gi ⊢
  generalize wR (wR h 32 a (some p)) 31 a Y'.head? = h2 at c2 g31 g32 g35 g13 gi
  refine ⟨fun w => ⟨m, g35, (fun z => by rw [g13] at z; cases z), fun t' e => ?_⟩, fun y hy => ?_⟩
  · have hY0 : Y' = [] := by cases Y' with
      | nil => rfl
      | cons y Y => cases w
    rw [g13] at e ⊢
    cases e
    have T2 : Tab h2 (lkOf h m) t n bn := by
      refine ⟨by rw [c2.1]; exact T.1, by rw [c2.2.1]; exact T.2.1, fun i hi => ?_⟩
      have inO := kb.inO hi
      have ne : ∀ x ∈ bn i, ¬ x = a := fun x hx z => by have := kb.2.2.2.1 x (inO x hx); rw [z] at this; omega
      refine ⟨by rw [c2.rf ta]; exact (T.2.2 i hi).1, (T.2.2 i hi).2.fra (fun b hb => ⟨c2.1 b, c2.it (fun z => by rw [z] at hb; omega)⟩) (fun x hx => c2.1 x) (fun x hx => c2.it (ne x hx)) (fun x hx f _ => c2.rf (ne x hx))⟩
    refine ⟨n + 1, adv_next T2 n1 ta (n + 1) idx h2 (by omega) (Ifx.refl h2 a) (by rw [gi]; exact k5) k6 (by rw [g31, hY0]; rfl) (fun h3 A => ?_)⟩
    obtain ⟨⟨c3, i3, r3⟩, idx', Y3, a1, a2, a3, a4, a5, a6⟩ := A
    rw [hY0, List.nil_append] at eR
    refine fin h3 (c2.trans c3) ⟨by rw [c3.1, c2.1]; exact k1, by rw [r3 35 (by omega)]; exact g35, ?_, by rw [a4, eR], idx', Y3, a1, a2, by rw [eR]; exact a3, by rw [eR]; exact a5, a6⟩ (by rw [r3 32 (by omega)]; exact g32)
    rw [i3 33 (by omega), gi, c3.it ma, gi]; exact k3
  · unfold wp_J15_nextNode_b98
    have hne : Y' ≠ [] := fun z => by rw [z] at hy; cases hy
    refine fin h2 c2 ⟨by rw [c2.1]; exact k1, g35, by rw [gi, gi]; exact k3, ?_, idx, Y', by rw [gi]; exact k5, k6, eR, fun z => absurd z hne, Or.inr ⟨j, X ++ [p], hj, by rw [ej]; simp⟩⟩ g32
    rw [g31, eR]
    cases Y' with
    | nil => exact absurd rfl hne
    | cons y Y => rfl
theorem restN_congr {n idx : Nat} {g g' : Nat → List Nat} (h : ∀ i, idx ≤ i → i < n → g i = g' i) : restN n idx g = restN n idx g' := by
  unfold restN
  exact nodes_congr (fun i hi => h (i + idx) (by omega) (by omega))
/-- a node that has been passed goes: what is to come stays -/
theorem HI.drop {h h' : Hp} {a m n i p : Nat} {bn : Nat → List Nat} {R : List Nat} (k : HI h a m n bn R) (hi : i < n) (hp : p ∈ bn i) (pR : p ∉ R) (ka : kd h' a = kd h a) (e35 : rf h' 35 a = rf h 35 a) (e33 : it h' 33 a = it h' 16 m) (e31 : rf h' 31 a = rf h 31 a) (e34 : it h' 34 a = it h 34 a) : HI h' a m n (updB bn i (flt p (bn i))) R := by
  obtain ⟨k1, k2, k3, k4, idx, Y, k5, k6, k7, k8, k9⟩ := k
  have lt : i < idx := by
    rcases Nat.lt_or_ge i idx with w | w
    · exact w
    · exact absurd (by rw [k7]; exact List.mem_append_right _ (mem_restN.mpr ⟨i, w, hi, hp⟩)) pR
  have er : restN n idx (updB bn i (flt p (bn i))) = restN n idx bn := restN_congr (fun j h1 h2 => by unfold updB; rw [if_neg (by omega)])
  refine ⟨by rw [ka]; exact k1, by rw [e35]; exact k2, e33, by rw [e31]; exact k4, idx, Y, by rw [e34]; exact k5, k6, by rw [er]; exact k7, k8, ?_⟩
  rcases k9 with w | ⟨j, X, w1, w2⟩
  · exact Or.inl w
  · right
    by_cases q : j = i
    · subst q
      refine ⟨j, flt p X, w1, ?_⟩
      unfold updB
      rw [if_pos rfl, w2]
      have pY : ∀ x ∈ Y, x ≠ p := fun x hx z => pR (by rw [k7, ← z]; exact List.mem_append_left _ hx)
      unfold flt
      rw [List.filter_append, List.filter_eq_self.mpr (fun x hx => decide_eq_true (pY x hx))]
    · refine ⟨j, X, w1, ?_⟩
      unfold updB
      rw [if_neg q]; exact w2
