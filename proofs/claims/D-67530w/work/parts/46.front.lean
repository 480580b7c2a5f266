/-! FRAMES; moveRootToFront -/
set_option maxRecDepth 100000
/-- nothing is new; only what P names has changed -/
def Chg (P : Nat → Nat → Prop) (h h' : Hp) : Prop := (∀ a, kd h' a = kd h a) ∧ (∀ a, ln h' a = ln h a) ∧ nc h' = nc h ∧ ns h' = ns h ∧ ∀ f a, P f a ∨ (rf h' f a = rf h f a ∧ it h' f a = it h f a)
theorem Chg.refl (P : Nat → Nat → Prop) (h : Hp) : Chg P h h := ⟨fun _ => rfl, fun _ => rfl, rfl, rfl, fun _ _ => Or.inr ⟨rfl, rfl⟩⟩
theorem Chg.trans {P : Nat → Nat → Prop} {h h1 h2 : Hp} (a : Chg P h h1) (b : Chg P h1 h2) : Chg P h h2 := by
  refine ⟨fun x => (b.1 x).trans (a.1 x), fun x => (b.2.1 x).trans (a.2.1 x), b.2.2.1.trans a.2.2.1, b.2.2.2.1.trans a.2.2.2.1, fun f x => ?_⟩
  rcases b.2.2.2.2 f x with e | e
  · exact Or.inl e
  · rcases a.2.2.2.2 f x with e' | e'
    · exact Or.inl e'
    · exact Or.inr ⟨e.1.trans e'.1, e.2.trans e'.2⟩
theorem Chg.mono {P Q : Nat → Nat → Prop} {h h' : Hp} (a : Chg P h h') (hPQ : ∀ f x, P f x → Q f x) : Chg Q h h' := ⟨a.1, a.2.1, a.2.2.1, a.2.2.2.1, fun f x => (a.2.2.2.2 f x).imp (hPQ f x) id⟩
theorem Chg.wR {P : Nat → Nat → Prop} {h h' : Hp} (a : Chg P h h') {k x : Nat} (v : Option Nat) (hp : P k x) : Chg P h (wR h' k x v) := by
  refine ⟨a.1, a.2.1, a.2.2.1, a.2.2.2.1, fun f y => ?_⟩
  by_cases e : f = k ∧ y = x
  · exact Or.inl (e.1 ▸ e.2 ▸ hp)
  · rw [rf_wR, if_neg e]; exact a.2.2.2.2 f y
theorem Chg.wI {P : Nat → Nat → Prop} {h h' : Hp} (a : Chg P h h') {k x : Nat} (v : Int32) (hp : P k x) : Chg P h (wI h' k x v) := by
  refine ⟨a.1, a.2.1, a.2.2.1, a.2.2.2.1, fun f y => ?_⟩
  by_cases e : f = k ∧ y = x
  · exact Or.inl (e.1 ▸ e.2 ▸ hp)
  · rw [it_wI, if_neg e]; exact a.2.2.2.2 f y
theorem Chg.rf {P : Nat → Nat → Prop} {h h' : Hp} (a : Chg P h h') {f x : Nat} (hp : ¬ P f x) : rf h' f x = rf h f x := ((a.2.2.2.2 f x).resolve_left hp).1
theorem Chg.it {P : Nat → Nat → Prop} {h h' : Hp} (a : Chg P h h') {f x : Nat} (hp : ¬ P f x) : it h' f x = it h f x := ((a.2.2.2.2 f x).resolve_left hp).2
theorem Chg.ex {P : Nat → Nat → Prop} {h h' : Hp} (a : Chg P h h') : Ex h h' := ⟨fun q _ => ⟨a.1 q, a.2.1 q⟩, Nat.le_of_eq a.2.2.1.symm, Nat.le_of_eq a.2.2.2.1.symm⟩
/-- links and colours of the tree's cells -/
abbrev PT (S : List Nat) : Nat → Nat → Prop := fun f a => a ∈ S ∧ (f = 6 ∨ f = 7 ∨ f = 8 ∨ f = 10)
theorem TF.chg {S : List Nat} {h h' : Hp} (a : TF S h h') : Chg (PT S) h h' := by
  refine ⟨a.1, a.2.1, a.2.2.1, a.2.2.2.1, fun f x => ?_⟩
  rcases a.2.2.2.2.1 f x with e | e
  · exact Or.inl ⟨e.2, by omega⟩
  · rcases a.2.2.2.2.2 f x with e' | e'
    · exact Or.inl ⟨e'.2, by omega⟩
    · exact Or.inr ⟨e, e'⟩
theorem NXs_last {h h' : Hp} {f : Nat} {e e' : Option Nat} {X : List Nat} {l : Nat} (k : NXs h f (X ++ [l]) e) (hs : ∀ a ∈ X, rf h' f a = rf h f a) (hl : rf h' f l = e') : NXs h' f (X ++ [l]) e' := by
  rw [NXs_app] at k ⊢
  exact ⟨NXs_fr hs k.1, by simp [NXs, hl]⟩
theorem PVs_first {h h' : Hp} {f : Nat} {p p' : Option Nat} {X : List Nat} {x : Nat} (k : PVs h f p (x :: X)) (hs : ∀ a ∈ X, rf h' f a = rf h f a) (hl : rf h' f x = p') : PVs h' f p' (x :: X) := ⟨hl, PVs_fr hs k.2⟩
theorem split_last {X : List Nat} (h : X ≠ []) : ∃ X0 l, X = X0 ++ [l] := ⟨X.dropLast, X.getLast h, (List.dropLast_concat_getLast h).symm⟩
theorem split_at {r : Nat} {L : List Nat} (h : r ∈ L) : ∃ X Y, L = X ++ r :: Y := List.append_of_mem h
theorem s_moveRootToFront {h : Hp} {t r n : Nat} {X Y : List Nat} {K : Hp → Prop} (hn : ln h t = n) (hn0 : 0 < n) (hnd : (X ++ r :: Y).Nodup) (hk : ∀ a ∈ X ++ r :: Y, kd h a = 7) (hh : rf h (100 + ix n (it h 0 r)) t = (X ++ r :: Y).head?) (hnx : NXs h 3 (X ++ r :: Y) none) (hpv : PVs h 9 none (X ++ r :: Y)) (ht : kd h t = 51)
    (fin : ∀ h', Chg (fun f a => (a ∈ X ++ r :: Y ∧ (f = 3 ∨ f = 9)) ∨ (a = t ∧ f = 100 + ix n (it h 0 r))) h h' → rf h' (100 + ix n (it h 0 r)) t = some r → NXs h' 3 (r :: (X ++ Y)) none → PVs h' 9 none (r :: (X ++ Y)) → K h') : wp_J8_moveRootToFront h (some t) (some r) K := by
  unfold wp_J8_moveRootToFront
  refine ⟨(fun q => by cases q), fun a q => ?_⟩
  cases q
  refine ⟨(fun q => by cases q), fun a q hb => ?_⟩
  cases q
  rw [hn] at hb ⊢
  obtain ⟨i1, i2⟩ := ix_ok (n := n) (it h 0 r) hn0 (by omega)
  generalize hj : ix n (it h 0 r) = j at *
  refine ⟨fun q => absurd q (nI_nle hn0 (by omega)), fun _ => ⟨j, i1, i2, ?_, ?_, ?_⟩⟩
  · intro a ha
    rw [hh] at ha
    rw [hk a (List.mem_of_mem_head? ha)]
    exact List.mem_cons_self
  · intro q
    unfold wp_J8_moveRootToFront_b102 wp_J8_moveRootToFront_b123
    rw [hh] at q
    have hX : X = [] := by
      cases X with
      | nil => rfl
      | cons x X =>
        simp at q
        subst q
        exact absurd (List.mem_append_right X List.mem_cons_self) (List.nodup_cons.mp hnd).1
    subst hX
    refine fin h (Chg.refl _ h) ?_ hnx hpv
    rw [hh, ← q]
  · intro q
    have hX : X ≠ [] := fun e => q (by rw [hh, e]; rfl)
    obtain ⟨X0, l, rfl⟩ := split_last hX
    obtain ⟨x1, X1, hx1⟩ : ∃ x1 X1, X0 ++ [l] = x1 :: X1 := by
      cases hc : X0 ++ [l] with
      | nil => exact absurd hc hX
      | cons a b => exact ⟨a, b, rfl⟩
    have nd := List.nodup_append.mp hnd
    have ndX := List.nodup_append.mp nd.1
    have rX : r ∉ X0 ++ [l] := fun e => nd.2.2 r e r List.mem_cons_self rfl
    have rY : r ∉ Y := (List.nodup_cons.mp nd.2.1).1
    have lX0 : l ∉ X0 := fun e => ndX.2.2 l e l List.mem_cons_self rfl
    have lX : l ∈ X0 ++ [l] := List.mem_append_right _ List.mem_cons_self
    have lr : l ≠ r := fun e => rX (e ▸ lX)
    have lY : l ∉ Y := fun e => nd.2.2 l lX l (List.mem_cons_of_mem _ e) rfl
    have x1X : x1 ∈ X0 ++ [l] := by rw [hx1]; exact List.mem_cons_self
    have x1r : x1 ≠ r := fun e => rX (e ▸ x1X)
    have x1Y : x1 ∉ Y := fun e => nd.2.2 x1 x1X x1 (List.mem_cons_of_mem _ e) rfl
    have x1X1 : x1 ∉ X1 := by
      have := nd.1
      rw [hx1] at this
      exact (List.nodup_cons.mp this).1
    have tk : ∀ a ∈ X0 ++ [l] ++ r :: Y, a ≠ t := fun a ha e => by
      have := hk a ha
      rw [e, ht] at this; cases this
    have hfst : rf h (100 + j) t = some x1 := by rw [hh, hx1]; rfl
    obtain ⟨nX, nRY⟩ := (NXs_app h 3 none (X0 ++ [l]) (r :: Y)).mp hnx
    obtain ⟨pX, pRY⟩ := (PVs_app h 9 none (X0 ++ [l]) (r :: Y)).mp hpv
    have r3 : rf h 3 r = Y.head? := by rw [nRY.1]; simp
    have r9 : rf h 9 r = some l := by rw [pRY.1]; simp
    refine ⟨j, i1, i2, ?_⟩
    rintro h1 rfl
    have a3 : rf (wR h (100 + j) t (some r)) 3 r = Y.head? := by rw [rf_wR, if_neg (fun w => by omega)]; exact r3
    have a9 : rf (wR h (100 + j) t (some r)) 9 r = some l := by rw [rf_wR, if_neg (fun w => by omega)]; exact r9
    rw [a3, a9, hfst]
    have hP : ∀ a, a ∈ X0 ++ [l] ++ r :: Y → ∀ f, f = 3 ∨ f = 9 → (a ∈ X0 ++ [l] ++ r :: Y ∧ (f = 3 ∨ f = 9)) ∨ (a = t ∧ f = 100 + j) := fun a ha f hf => Or.inl ⟨ha, hf⟩
    have rL : r ∈ X0 ++ [l] ++ r :: Y := List.mem_append_right _ List.mem_cons_self
    have lL : l ∈ X0 ++ [l] ++ r :: Y := List.mem_append_left _ lX
    have xL : x1 ∈ X0 ++ [l] ++ r :: Y := List.mem_append_left _ x1X
    have C1 : Chg (fun f a => (a ∈ X0 ++ [l] ++ r :: Y ∧ (f = 3 ∨ f = 9)) ∨ (a = t ∧ f = 100 + j)) h (wR h (100 + j) t (some r)) := (Chg.refl _ h).wR _ (Or.inr ⟨rfl, rfl⟩)
    have last : ∀ h2, Chg (fun f a => (a ∈ X0 ++ [l] ++ r :: Y ∧ (f = 3 ∨ f = 9)) ∨ (a = t ∧ f = 100 + j)) h h2 → rf h2 (100 + j) t = some r → (∀ a ∈ X0 ++ [l] ++ r :: Y, rf h2 3 a = rf h 3 a) → (∀ a ∈ X0 ++ [l] ++ r :: Y, a ∉ Y → rf h2 9 a = rf h 9 a) → PVs h2 9 (some l) Y → wp_J8_moveRootToFront_b68 K h2 (some r) (some x1) Y.head? (some l) := by
      intro h2 C2 t2 s3 s9 pY
      unfold wp_J8_moveRootToFront_b68
      refine ⟨(fun q => by cases q), fun a q => ?_⟩
      cases q
      rintro h3 rfl
      unfold wp_J8_moveRootToFront_b80
      refine ⟨(fun q => by cases q), fun a q => ?_⟩
      cases q
      rintro h4 rfl
      unfold wp_J8_moveRootToFront_b91
      refine ⟨r, rfl, ?_⟩
      rintro h5 rfl h6 rfl
      unfold wp_J8_moveRootToFront_b102 wp_J8_moveRootToFront_b123
      refine fin _ ((((C2.wR _ (hP l lL 3 (Or.inl rfl))).wR _ (hP x1 xL 9 (Or.inr rfl))).wR _ (hP r rL 3 (Or.inl rfl))).wR _ (hP r rL 9 (Or.inr rfl))) ?_ ?_ ?_
      · simp only [rf_wR]
        have e1 : ¬ (100 + j = 9) := by omega
        have e2 : ¬ (100 + j = 3) := by omega
        simp only [e1, e2, false_and, if_false]
        exact t2
      · refine ⟨?_, ?_⟩
        · simp only [rf_wR]
          have e1 : ¬ (3 = 9) := by decide
          simp only [e1, false_and, if_false, true_and, and_self, if_true]
          rw [hx1]; rfl
        · have F3 : ∀ a, a ≠ r → a ≠ l → rf (wR (wR (wR (wR h2 3 l Y.head?) 9 x1 (some r)) 3 r (some x1)) 9 r none) 3 a = rf h2 3 a := fun a h1 h2 => by simp [rf_wR, h1, h2]
          rw [NXs_app]
          refine ⟨NXs_last nX (fun a ha => ?_) ?_, NXs_fr (fun a ha => ?_) nRY.2⟩
          · rw [F3 a (fun e => rX (e ▸ List.mem_append_left _ ha)) (fun e => lX0 (e ▸ ha)), s3 a (List.mem_append_left _ (List.mem_append_left _ ha))]
          · simp [rf_wR, lr]
          · rw [F3 a (fun e => rY (e ▸ ha)) (fun e => lY (e ▸ ha)), s3 a (List.mem_append_right _ (List.mem_cons_of_mem _ ha))]
      · refine ⟨by simp [rf_wR], ?_⟩
        have F9 : ∀ a, a ≠ r → a ≠ x1 → rf (wR (wR (wR (wR h2 3 l Y.head?) 9 x1 (some r)) 3 r (some x1)) 9 r none) 9 a = rf h2 9 a := fun a h1 h2 => by simp [rf_wR, h1, h2]
        rw [PVs_app]
        refine ⟨?_, ?_⟩
        · rw [hx1] at pX ⊢
          refine PVs_first pX (fun a ha => ?_) (by simp [rf_wR, x1r])
          have haX : a ∈ X0 ++ [l] := by rw [hx1]; exact List.mem_cons_of_mem _ ha
          rw [F9 a (fun e => rX (e ▸ haX)) (fun e => x1X1 (e ▸ ha)), s9 a (List.mem_append_left _ haX) (fun e => nd.2.2 a haX a (List.mem_cons_of_mem _ e) rfl)]
        · have : (X0 ++ [l]).getLast?.or (some r) = some l := by simp
          rw [this]
          exact PVs_fr (fun a ha => F9 a (fun e => rY (e ▸ ha)) (fun e => x1Y (e ▸ ha))) pY
    have S3 : ∀ a ∈ X0 ++ [l] ++ r :: Y, rf (wR h (100 + j) t (some r)) 3 a = rf h 3 a := fun a ha => by rw [rf_wR, if_neg (fun w => tk a ha w.2)]
    have S9 : ∀ a ∈ X0 ++ [l] ++ r :: Y, rf (wR h (100 + j) t (some r)) 9 a = rf h 9 a := fun a ha => by rw [rf_wR, if_neg (fun w => tk a ha w.2)]
    refine ⟨fun hy => ?_, fun y hy => ⟨fun a ha => ?_, ?_⟩⟩
    · have hY : Y = [] := by cases Y with | nil => rfl | cons a b => cases hy
      subst hY
      exact last _ C1 (by rw [rf_wR, if_pos ⟨rfl, rfl⟩]) S3 (fun a ha _ => S9 a ha) trivial
    · have : kd h a = 7 := hk a (List.mem_append_right _ (List.mem_cons_of_mem _ (List.mem_of_mem_head? ha)))
      rw [kd_wR, this]; exact List.mem_cons_self
    · rintro h2 rfl
      obtain ⟨y', Y1, rfl⟩ : ∃ y' Y1, Y = y' :: Y1 := by cases Y with | nil => cases hy | cons a b => exact ⟨a, b, rfl⟩
      cases hy
      have yL : y ∈ X0 ++ [l] ++ r :: y :: Y1 := List.mem_append_right _ (List.mem_cons_of_mem _ List.mem_cons_self)
      refine last _ (C1.wR _ (hP y yL 9 (Or.inr rfl))) ?_ (fun a ha => ?_) (fun a ha q => ?_) ?_
      · rw [rf_wR, if_neg (fun w => by omega), rf_wR, if_pos ⟨rfl, rfl⟩]
      · rw [rf_wR, if_neg (fun w => by omega)]; exact S3 a ha
      · rw [rf_wR, if_neg (by rintro ⟨-, rfl⟩; exact q List.mem_cons_self)]; exact S9 a ha
      · have pY := pRY.2
        have ny : y ∉ Y1 := (List.nodup_cons.mp (List.nodup_cons.mp nd.2.1).2).1
        refine PVs_first pY (fun a ha => ?_) (by rw [rf_wR, if_pos ⟨rfl, rfl⟩])
        rw [rf_wR, if_neg (by rintro ⟨-, rfl⟩; exact ny ha)]
        exact S9 a (List.mem_append_right _ (List.mem_cons_of_mem _ (List.mem_cons_of_mem _ ha)))
