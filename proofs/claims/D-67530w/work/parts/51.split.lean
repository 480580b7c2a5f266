/-! SPLIT -/
set_option maxRecDepth 100000
theorem Evo.keep {P : Nat → Nat → Prop} {h0 h : Hp} {m : Nat} {O : List Nat} {s : Nat → Nat} (a : Evo P h0 h m O s) {f b : Nat} (hb : kd h0 b ≠ 0) (hf : f ≠ 4 ∧ f ≠ 5 ∧ f ≠ 19 ∧ f ≠ 20) (hP : ¬ P f b) : rf h f b = rf h0 f b ∧ it h f b = it h0 f b := by
  rcases a.2.2.2.1 f b hb with q | q
  · rcases q with q | q | q
    · omega
    · omega
    · exact absurd q hP
  · exact q
theorem Evo.mono {P Q : Nat → Nat → Prop} {h0 h : Hp} {m : Nat} {O : List Nat} {s : Nat → Nat} (a : Evo P h0 h m O s) (hPQ : ∀ f b, kd h0 b ≠ 0 → P f b → Q f b) : Evo Q h0 h m O s :=
  ⟨a.1, a.2.1, a.2.2.1, fun f b hb => (a.2.2.2.1 f b hb).imp (fun q => q.imp id (fun q => q.imp id (hPQ f b hb))) id, a.2.2.2.2⟩
theorem Evo.int {P : Nat → Nat → Prop} {h0 h : Hp} {m : Nat} {O : List Nat} {s : Nat → Nat} (a : Evo P h0 h m O s) (hP : ∀ x, ¬ P 23 x) : IntS h0 h := fun b hb => by
  have b0 : kd h0 b ≠ 0 := by omega
  exact ⟨(a.1.1 b b0).1, (a.keep b0 (by decide) (hP b)).2⟩
theorem Chg.int {P : Nat → Nat → Prop} {h h' : Hp} (c : Chg P h h') (hP : ∀ x, ¬ P 23 x) : IntS h h' := fun b _ => ⟨c.1 b, c.it (hP b)⟩
theorem Chg.evo {P : Nat → Nat → Prop} {h h' : Hp} {m : Nat} {O : List Nat} (c : Chg P h h') (nd : O.Nodup) (hO : ∀ x ∈ O, kd h x ≠ 0) (hP2 : ∀ f x, P f x → f = 3 ∨ (6 ≤ f ∧ f ≤ 10) ∨ 100 ≤ f) : Evo P h h' m O id := (Evo.start P h m nd hO).chg c (fun _ _ _ q => q) hP2
theorem Bin.map {h h' : Hp} {lk N j : Nat} {A : List Nat} {s : Nat → Nat} (hI : IntS h h') (hok : ∀ a ∈ A, NodeOK h a) (hix : ∀ a ∈ A, ix N (it h 0 a) = j) (hd : HD h A) (hs : ∀ x ∈ A, kd h' (s x) = lk ∧ it h' 0 (s x) = it h 0 x ∧ rf h' 1 (s x) = rf h 1 x ∧ rf h' 2 (s x) = rf h 2 x) (hnx : NXs h' 3 (A.map s) none) : Bin h' lk N j (A.map s) := by
  refine ⟨fun a ha => ?_, ?_, hnx, Or.inl (fun a ha => ?_)⟩
  · obtain ⟨y, hy, rfl⟩ := List.mem_map.mp ha
    obtain ⟨g1, g2, g3, g4⟩ := hs y hy
    exact ⟨(hok y hy).fra hI g2 g3 g4, by rw [g2]; exact hix y hy⟩
  · unfold HD
    rw [List.pairwise_map]
    exact List.Pairwise.imp_of_mem (fun {x y} hx hy w => by rw [(hs x hx).2.1, (hs y hy).2.1]; exact w) hd
  · obtain ⟨y, hy, rfl⟩ := List.mem_map.mp ha
    exact (hs y hy).1
def PH (A : List Nat) (t j : Nat) (f b : Nat) : Prop := (b ∈ A ∧ (f = 3 ∨ (6 ≤ f ∧ f ≤ 10))) ∨ (b = t ∧ f = 100 + j)
theorem PH.fl {A : List Nat} {t j f b : Nat} (q : PH A t j f b) : f = 3 ∨ (6 ≤ f ∧ f ≤ 10) ∨ 100 ≤ f := by
  rcases q with q | q
  · omega
  · omega
theorem PH.no {A : List Nat} {t j : Nat} (b : Nat) : ¬ PH A t j 23 b := fun q => by have := q.fl; omega
theorem split_half {h : Hp} {m t N j lk : Nat} {O A : List Nat} {c i3 : Int32} {oth : Option Nat} {G : Hp → Prop} (hm0 : kd h m = 2 ∨ kd h m = 3) (hlk : lk = if kd h m = 2 then 5 else 6) (hok : ∀ a ∈ A, NodeOK h a) (hOk : ∀ b ∈ O, kd h b ≠ 0) (nd : O.Nodup) (mO : m ∉ O) (dl : kd h m = 3 → DL h m O) (hA : ∀ a ∈ A, a ∈ O) (hne : A ≠ []) (hkA : ∀ a ∈ A, kd h a = 7) (hd : HD h A) (hix : ∀ a ∈ A, ix N (it h 0 a) = j) (hnx : NXs h 3 A none) (hpv : PVs h 9 none A) (ht : kd h t = 51) (hN : ln h t = N) (hj : j < N) (hi3 : i3 = nI j) (hR : Rm h A.length (A.length * 6)) (htree : oth = none → ∃ r S sub, Trg 7 8 h r S sub ∧ Srt h S ∧ S.Perm A)
    (fin : ∀ h' s A', Evo (PH A t j) h h' m O s → (∀ x, x ∉ A → s x = x) → A'.Perm (A.map s) → rf h' (100 + j) t = A'.head? → Bin h' lk N j A' → nc h' ≤ nc h + A.length → ns h' ≤ ns h + A.length * 6 → G h') :
    ((6 < c → (∃ a214, some t = some a214 ∧ (∃ j216, i3 = nI j216 ∧ j216 < ln h a214 ∧ ∀ h219, h219 = wR h (100 + j216) a214 A.head? → ((oth = none → G h219) ∧ (∀ a221, oth = some a221 → (wp_J8_treeify h219 A.head? (some t) (fun h224 => Ex h219 h224 → G h224))))))) ∧ (¬ 6 < c → (wp_J8_untreeify h A.head? (some m) (fun r228 h229 => Ex h h229 → (∃ a232, some t = some a232 ∧ (∃ j234, i3 = nI j234 ∧ j234 < ln h229 a232 ∧ ∀ h237, h237 = wR h229 (100 + j234) a232 r228 → G h237)))))) := by
  have tA : ∀ a ∈ A, a ≠ t := fun a ha e => by have := hkA a ha; rw [e, ht] at this; cases this
  refine ⟨fun _ => ⟨t, rfl, j, hi3, by rw [hN]; exact hj, ?_⟩, fun _ => ?_⟩
  · rintro h1 rfl
    have C1 : Chg (PH A t j) h (wR h (100 + j) t A.head?) := (Chg.refl _ h).wR _ (Or.inr ⟨rfl, rfl⟩)
    have I1 := C1.int PH.no
    refine ⟨fun q => ?_, fun a q => ?_⟩
    · obtain ⟨r, S, sub, k1, k2, k3⟩ := htree q
      have g : ∀ f b, f < 100 → rf (wR h (100 + j) t A.head?) f b = rf h f b := fun f b hf => by rw [rf_wR, if_neg (by omega)]
      refine fin _ id A (C1.evo nd hOk (fun f x q => q.fl)) (fun _ _ => rfl) (by simp) (by rw [rf_wR, if_pos ⟨rfl, rfl⟩]) ⟨fun a ha => ⟨(hok a ha).fra I1 rfl (g 1 a (by omega)) (g 2 a (by omega)), hix a ha⟩, hd, NXs_fr (fun a _ => g 3 a (by omega)) hnx, Or.inr ⟨hkA, PVs_fr (fun a _ => g 9 a (by omega)) hpv, r, S, sub, k1.same (fun a _ => ⟨g 6 a (by omega), g 7 a (by omega), g 8 a (by omega)⟩), k2, k3⟩⟩ (Nat.le_add_right _ _) (Nat.le_add_right _ _)
    · have g : ∀ f b, f < 100 → rf (wR h (100 + j) t A.head?) f b = rf h f b := fun f b hf => by rw [rf_wR, if_neg (by omega)]
      refine s_treeify (n := N) hne hN (by omega) ht hkA hd (fun a ha b hb => (hix a ha).trans (hix b hb).symm) (fun a ha => ?_) (NXs_fr (fun a _ => g 3 a (by omega)) hnx) (PVs_fr (fun a _ => g 9 a (by omega)) hpv) (fun h2 A' p2 c2 e2 n2 v2 t2 _ => ?_)
      · show rf _ (100 + ix N (it h 0 a)) t = _
        rw [hix a ha, rf_wR, if_pos ⟨rfl, rfl⟩]
      · have C2 : Chg (PH A t j) h h2 := C1.trans (c2.mono (fun f a q => by
          rcases q with q | ⟨q1, b, hb, q2⟩
          · exact Or.inl ⟨q.1, by omega⟩
          · refine Or.inr ⟨q1, ?_⟩
            rw [q2]
            show 100 + ix N (it h 0 b) = _
            rw [hix b hb]))
        have I2 := C2.int PH.no
        have u : ∀ a ∈ A, ∀ f, f < 3 → rf h2 f a = rf h f a ∧ it h2 f a = it h f a := fun a ha f hf => ⟨C2.rf (fun q => by have := q.fl; omega), C2.it (fun q => by have := q.fl; omega)⟩
        obtain ⟨b, hb⟩ := List.exists_mem_of_ne_nil A hne
        obtain ⟨r, S, sub, k1, k2, k3⟩ := t2
        refine fin h2 id A' (C2.evo nd hOk (fun f x q => q.fl)) (fun _ _ => rfl) (by simpa using p2) ?_ ⟨fun a ha => ?_, (hd.perm p2.symm).fra (fun a ha => (u a (p2.mem_iff.mp ha) 0 (by omega)).2), n2, Or.inr ⟨fun a ha => by rw [C2.1]; exact hkA a (p2.mem_iff.mp ha), v2, r, S, sub, k1, k2, k3⟩⟩ (by rw [C2.2.2.1]; omega) (by rw [C2.2.2.2.1]; omega)
        · have := e2 b hb
          rw [show it (wR h (100 + j) t A.head?) 0 b = it h 0 b from rfl, hix b hb] at this
          exact this
        · have ha' := p2.mem_iff.mp ha
          exact ⟨(hok a ha').fra I2 (u a ha' 0 (by omega)).2 (u a ha' 1 (by omega)).1 (u a ha' 2 (by omega)).1, by rw [(u a ha' 0 (by omega)).2]; exact hix a ha'⟩
  · have hlk0 : lk ≠ 0 := by rw [hlk]; split <;> decide
    have hlks : szK lk 0 ≤ 6 := by rw [hlk]; split <;> decide
    refine s_untreeify hm0 hlk hOk nd mO dl hA hd.nd hkA hnx hR (fun h1 s R1 n1 _ => ⟨t, rfl, j, hi3, ?_, ?_⟩)
    · rw [(R1.ex.1 t (by rw [ht]; decide)).2, hN]; exact hj
    · rintro h2 rfl
      have E1 := (R1.evo hlk0 hOk nd (by omega) mO).mono (Q := PH A t j) (fun _ _ _ q => q.elim)
      have E2 : Evo (PH A t j) h (wR h1 (100 + j) t (A.map s).head?) m O s := E1.chg ((Chg.refl (PH A t j) h1).wR _ (Or.inr ⟨rfl, rfl⟩)) (fun _ _ _ q => q) (fun f x q => q.fl)
      have g : ∀ f b, f < 100 → rf (wR h1 (100 + j) t (A.map s).head?) f b = rf h1 f b := fun f b hf => by rw [rf_wR, if_neg (by omega)]
      refine fin _ s (A.map s) E2 R1.1 (List.Perm.refl _) (by rw [rf_wR, if_pos ⟨rfl, rfl⟩]) (Bin.map (E2.int PH.no) hok hix hd (fun a ha => ?_) (NXs_fr (fun a _ => g 3 a (by omega)) n1)) (Nat.le_of_eq R1.2.2.2.2.1.1) ?_
      · obtain ⟨z1, z2, z3, z4, z5⟩ := R1.2.1 a ha
        exact ⟨z2, z3, (g 1 _ (by omega)).trans z4, (g 2 _ (by omega)).trans z5⟩
      · show ns h1 ≤ _
        rw [R1.2.2.2.2.1.2]
        exact Nat.add_le_add_left (Nat.mul_le_mul_left _ hlks) _
/-- one more node at a chain's end -/
def pushH (h : Hp) (A : List Nat) (a : Nat) : Hp := match A.getLast? with
  | none => wR (wR h 3 a none) 9 a none
  | some z => wR (wR (wR h 3 a none) 9 a (some z)) 3 z (some a)
theorem pushH_facts {h : Hp} {A : List Nat} {a : Nat} (haA : a ∉ A) : rf (pushH h A a) 3 a = none ∧ rf (pushH h A a) 9 a = A.getLast? ∧ (∀ z, A.getLast? = some z → rf (pushH h A a) 3 z = some a) ∧ (∀ f b, b ≠ a → (f = 3 → A.getLast? ≠ some b) → rf (pushH h A a) f b = rf h f b) ∧ (∀ f b, it (pushH h A a) f b = it h f b) ∧ Chg (fun f b => (b = a ∨ b ∈ A) ∧ (f = 3 ∨ f = 9)) h (pushH h A a) := by
  unfold pushH
  cases e : A.getLast? with
  | none =>
    refine ⟨by simp [rf_wR], by simp [rf_wR], (fun z hz => by cases hz), fun f b hb _ => by simp [rf_wR, hb], fun f b => rfl, ?_⟩
    exact ((Chg.refl _ h).wR _ ⟨Or.inl rfl, Or.inl rfl⟩).wR _ ⟨Or.inl rfl, Or.inr rfl⟩
  | some z =>
    have zA := mem_last e
    have za : z ≠ a := fun q => haA (q ▸ zA)
    refine ⟨by simp [rf_wR, za.symm], by simp [rf_wR], (fun z' hz => by cases hz; simp [rf_wR]), fun f b hb hf => ?_, fun f b => rfl, ?_⟩
    · by_cases q : f = 3
      · have : b ≠ z := fun w => hf q (by rw [w])
        simp [rf_wR, hb, this]
      · simp [rf_wR, hb, q]
    · exact (((Chg.refl _ h).wR _ ⟨Or.inl rfl, Or.inl rfl⟩).wR _ ⟨Or.inl rfl, Or.inr rfl⟩).wR _ ⟨Or.inr zA, Or.inl rfl⟩
theorem pushH_chain {h : Hp} {A : List Nat} {a : Nat} (haA : a ∉ A) (nd : A.Nodup) (hn : NXs h 3 A none) (hp : PVs h 9 none A) : NXs (pushH h A a) 3 (A ++ [a]) none ∧ PVs (pushH h A a) 9 none (A ++ [a]) := by
  obtain ⟨f1, f2, f3, f4, f5, f6⟩ := pushH_facts (h := h) haA
  refine ⟨(NXs_app _ 3 none A [a]).mpr ⟨NXs_re hn nd f3 (fun b hb q => f4 3 b (fun e => haA (e ▸ hb)) (fun _ => q)), ?_, trivial⟩, (PVs_app _ 9 none A [a]).mpr ⟨PVs_fr (fun b hb => f4 9 b (fun e => haA (e ▸ hb)) (fun q => by cases q)) hp, ?_, trivial⟩⟩
  · rw [f1]; rfl
  · rw [f2]; simp
theorem pushH_other {h : Hp} {A B : List Nat} {a : Nat} (haA : a ∉ A) (haB : a ∉ B) (hAB : ∀ b ∈ B, b ∉ A) : (NXs h 3 B none → NXs (pushH h A a) 3 B none) ∧ (PVs h 9 none B → PVs (pushH h A a) 9 none B) := by
  obtain ⟨f1, f2, f3, f4, f5, f6⟩ := pushH_facts (h := h) haA
  exact ⟨NXs_fr (fun b hb => f4 3 b (fun e => haB (e ▸ hb)) (fun _ q => hAB b hb (mem_last q))), PVs_fr (fun b hb => f4 9 b (fun e => haB (e ▸ hb)) (fun q => by cases q))⟩
def splitEnd (K : Hp → Prop) (h : Hp) (l1 l2 : Option Nat) (l3 l4 : Int32) (l6 l8 : Option Nat) (l10 l11 : Int32) : Prop :=
  ((l6 = none → (wp_J8_split_b171 K h l1 l2 l3 l4 l6 l8 l11)) ∧ (∀ a212, l6 = some a212 → ((6 < l10 → (∃ a214, l2 = some a214 ∧ (∃ j216, l3 = nI j216 ∧ j216 < ln h a214 ∧ ∀ h219, h219 = wR h (100 + j216) a214 l6 → ((l8 = none → (wp_J8_split_b171 K h219 l1 l2 l3 l4 l6 l8 l11)) ∧ (∀ a221, l8 = some a221 → (wp_J8_treeify h219 l6 l2 (fun h224 => Ex h219 h224 → (wp_J8_split_b171 K h224 l1 l2 l3 l4 l6 l8 l11)))))))) ∧ (¬ 6 < l10 → (wp_J8_untreeify h l6 l1 (fun r228 h229 => Ex h h229 → (∃ a232, l2 = some a232 ∧ (∃ j234, l3 = nI j234 ∧ j234 < ln h229 a232 ∧ ∀ h237, h237 = wR h229 (100 + j234) a232 r228 → (wp_J8_split_b171 K h237 l1 l2 l3 l4 l6 l8 l11)))))))))
def lowB (h : Hp) (c : Int32) (a : Nat) : Bool := decide ((it h 0 a) &&& c = 0)
theorem head_push (A : List Nat) (a : Nat) : (A ++ [a]).head? = (match A.getLast? with | none => some a | some _ => A.head?) := by
  cases A with
  | nil => rfl
  | cons x X =>
    cases e : (x :: X).getLast? with
    | none => simp at e
    | some z => rfl
theorem split_loop {h0 : Hp} {L : List Nat} {K : Hp → Prop} {l1 l2 : Option Nat} {l3 l4 : Int32} (nd : L.Nodup) (hk : ∀ a ∈ L, kd h0 a = 7) (fin : ∀ h, Chg (fun f a => a ∈ L ∧ (f = 3 ∨ f = 9)) h0 h → NXs h 3 (L.filter (lowB h0 l4)) none → PVs h 9 none (L.filter (lowB h0 l4)) → NXs h 3 (L.filter (fun a => !lowB h0 l4 a)) none → PVs h 9 none (L.filter (fun a => !lowB h0 l4 a)) →
      splitEnd K h l1 l2 l3 l4 (L.filter (lowB h0 l4)).head? (L.filter (fun a => !lowB h0 l4 a)).head? (nI (L.filter (lowB h0 l4)).length) (nI (L.filter (fun a => !lowB h0 l4 a)).length)) :
    ∀ (R P : List Nat) (h : Hp) (n : Nat), L = P ++ R → R.length + 1 ≤ n → Chg (fun f a => a ∈ L ∧ (f = 3 ∨ f = 9)) h0 h → NXs h 3 R none → NXs h 3 (P.filter (lowB h0 l4)) none → PVs h 9 none (P.filter (lowB h0 l4)) → NXs h 3 (P.filter (fun a => !lowB h0 l4 a)) none → PVs h 9 none (P.filter (fun a => !lowB h0 l4 a)) →
      wp_J8_split_b25 K n h l1 l2 l3 l4 (P.filter (lowB h0 l4)).head? (P.filter (lowB h0 l4)).getLast? (P.filter (fun a => !lowB h0 l4 a)).head? (P.filter (fun a => !lowB h0 l4 a)).getLast? (nI (P.filter (lowB h0 l4)).length) (nI (P.filter (fun a => !lowB h0 l4 a)).length) R.head?
  | R, P, h, 0, _, hn, _, _, _, _, _, _ => by omega
  | [], P, h, n + 1, e, hn, c, hR, a1, a2, b1, b2 => by
    have e' : L = P := by rw [e]; simp
    subst e'
    unfold wp_J8_split_b25
    exact ⟨fun _ => fin h c a1 a2 b1 b2, (fun a q => by cases q)⟩
  | a :: R, P, h, n + 1, e, hn, c, hR, a1, a2, b1, b2 => by
    have aL : a ∈ L := by rw [e]; simp
    have ndL := nd
    rw [e] at ndL
    have nd' := List.nodup_append.mp ndL
    have aP : a ∉ P := fun q => nd'.2.2 a q a List.mem_cons_self rfl
    have aR : a ∉ R := (List.nodup_cons.mp nd'.2.1).1
    have RP : ∀ b ∈ R, b ∉ P := fun b hb q => nd'.2.2 b q b (List.mem_cons_of_mem _ hb) rfl
    have sA : ∀ b ∈ P.filter (lowB h0 l4), b ∈ P := fun b hb => (List.mem_filter.mp hb).1
    have sB : ∀ b ∈ P.filter (fun a => !lowB h0 l4 a), b ∈ P := fun b hb => (List.mem_filter.mp hb).1
    have ndP := nd'.1
    have e3 : rf h 3 a = R.head? := by have := hR.1; simpa using this
    have e0 : it h 0 a = it h0 0 a := c.it (fun q => by omega)
    have PL : ∀ b ∈ P, b ∈ L := fun b hb => by rw [e]; exact List.mem_append_left _ hb
    have eL : L = (P ++ [a]) ++ R := by rw [e]; simp
    have hn' : R.length + 1 ≤ n := by simpa using hn
    unfold wp_J8_split_b25
    refine ⟨(fun q => by cases q), fun a' q => ?_⟩
    cases q
    refine ⟨fun b hb => ?_, ?_⟩
    · rw [e3] at hb
      have : b ∈ L := by rw [e]; exact List.mem_append_right _ (List.mem_cons_of_mem _ (List.mem_of_mem_head? hb))
      rw [c.1 b, hk b this]; decide
    · rintro h1 rfl
      have f1 : (P ++ [a]).filter (lowB h0 l4) = P.filter (lowB h0 l4) ++ (if lowB h0 l4 a then [a] else []) := by
        rw [List.filter_append]; cases q : lowB h0 l4 a <;> simp [q]
      have f2 : (P ++ [a]).filter (fun a => !lowB h0 l4 a) = P.filter (fun a => !lowB h0 l4 a) ++ (if lowB h0 l4 a then [] else [a]) := by
        rw [List.filter_append]; cases q : lowB h0 l4 a <;> simp [q]
      refine ⟨fun q => ?_, fun q => ?_⟩
      · have lb : lowB h0 l4 a = false := by unfold lowB; rw [← e0]; exact decide_eq_false q
        rw [lb] at f1 f2
        simp only [Bool.false_eq_true, if_false, List.append_nil] at f1 f2
        have aB : a ∉ P.filter (fun a => !lowB h0 l4 a) := fun w => aP (sB a w)
        have key : wp_J8_split_b25 K n (pushH h (P.filter (fun a => !lowB h0 l4 a)) a) l1 l2 l3 l4 (P.filter (lowB h0 l4)).head? (P.filter (lowB h0 l4)).getLast? (P.filter (fun a => !lowB h0 l4 a) ++ [a]).head? (some a) (nI (P.filter (lowB h0 l4)).length) (nI (P.filter (fun a => !lowB h0 l4 a)).length + 1) R.head? := by
          have := split_loop nd hk fin R (P ++ [a]) (pushH h (P.filter (fun a => !lowB h0 l4 a)) a) n eL hn' (c.trans ((pushH_facts aB).2.2.2.2.2.mono (fun f b w => ⟨?_, w.2⟩))) ((pushH_other aB aR (fun b hb w => RP b hb (sB b w))).1 hR.2)
          · rw [f1, f2] at this
            obtain ⟨c1, c2⟩ := pushH_chain aB (ndP.filter _) b1 b2
            have dis : ∀ b ∈ P.filter (lowB h0 l4), b ∉ P.filter (fun a => !lowB h0 l4 a) := fun b hb w => by
              have := (List.mem_filter.mp hb).2
              have w := (List.mem_filter.mp w).2
              simp [this] at w
            have o := pushH_other (h := h) aB (fun w => aP (sA a w)) dis
            have := this (o.1 a1) (o.2 a2) c1 c2
            rw [List.getLast?_append, List.length_append, ← nI_add] at this
            exact this
          · rcases w.1 with w | w
            · rw [w]; exact aL
            · exact PL b (sB b w)
        rw [head_push] at key
        rw [e3]
        unfold pushH at key
        unfold wp_J8_split_b117 wp_J8_split_b124
        rintro h2 rfl
        refine ⟨fun z => ?_, fun z hz => ?_⟩
        · rw [z] at key ⊢; exact key
        · rintro h3 rfl
          rw [hz] at key ⊢; exact key
      · have lb : lowB h0 l4 a = true := by unfold lowB; rw [← e0]; exact decide_eq_true q
        rw [lb] at f1 f2
        simp only [if_true, List.append_nil] at f1 f2
        have aB : a ∉ P.filter (lowB h0 l4) := fun w => aP (sA a w)
        have key : wp_J8_split_b25 K n (pushH h (P.filter (lowB h0 l4)) a) l1 l2 l3 l4 (P.filter (lowB h0 l4) ++ [a]).head? (some a) (P.filter (fun a => !lowB h0 l4 a)).head? (P.filter (fun a => !lowB h0 l4 a)).getLast? (nI (P.filter (lowB h0 l4)).length + 1) (nI (P.filter (fun a => !lowB h0 l4 a)).length) R.head? := by
          have := split_loop nd hk fin R (P ++ [a]) (pushH h (P.filter (lowB h0 l4)) a) n eL hn' (c.trans ((pushH_facts aB).2.2.2.2.2.mono (fun f b w => ⟨?_, w.2⟩))) ((pushH_other aB aR (fun b hb w => RP b hb (sA b w))).1 hR.2)
          · rw [f1, f2] at this
            obtain ⟨c1, c2⟩ := pushH_chain aB (ndP.filter _) a1 a2
            have dis : ∀ b ∈ P.filter (fun a => !lowB h0 l4 a), b ∉ P.filter (lowB h0 l4) := fun b hb w => by
              have := (List.mem_filter.mp hb).2
              have w := (List.mem_filter.mp w).2
              simp [w] at this
            have o := pushH_other (h := h) aB (fun w => aP (sB a w)) dis
            have := this c1 c2 (o.1 b1) (o.2 b2)
            rw [List.getLast?_append, List.length_append, ← nI_add] at this
            exact this
          · rcases w.1 with w | w
            · rw [w]; exact aL
            · exact PL b (sA b w)
        rw [head_push] at key
        rw [e3]
        unfold pushH at key
        unfold wp_J8_split_b82 wp_J8_split_b124
        rintro h2 rfl
        refine ⟨fun z => ?_, fun z hz => ?_⟩
        · rw [z] at key ⊢; exact key
        · rintro h3 rfl
          rw [hz] at key ⊢; exact key

theorem IntS.keyed {h h' : Hp} {L : List Nat} (hI : IntS h h') (hok : ∀ a ∈ L, NodeOK h a) (e0 : ∀ a ∈ L, it h' 0 a = it h 0 a) (e1 : ∀ a ∈ L, rf h' 1 a = rf h 1 a) (e2 : ∀ a ∈ L, rf h' 2 a = rf h 2 a) : ∀ a ∈ L, NodeOK h' a := fun a ha => (hok a ha).fra hI (e0 a ha) (e1 a ha) (e2 a ha)
theorem Evo.dl {P : Nat → Nat → Prop} {h0 h : Hp} {m : Nat} {O : List Nat} {s : Nat → Nat} (a : Evo P h0 h m O s) (hm : kd h0 m ≠ 0) (d : kd h0 m = 3 → DL h0 m O) : kd h m = 3 → DL h m (O.map s) := fun q => by
  have : kd h0 m = 3 := by rw [← (a.1.1 m hm).1]; exact q
  exact a.2.2.2.2 this (d this)
def PS (L : List Nat) (t i j : Nat) (f b : Nat) : Prop := (b ∈ L ∧ (f = 3 ∨ (6 ≤ f ∧ f ≤ 10))) ∨ (b = t ∧ (f = 100 + i ∨ f = 100 + j))
theorem PS.fl {A : List Nat} {t i j f b : Nat} (q : PS A t i j f b) : f = 3 ∨ (6 ≤ f ∧ f ≤ 10) ∨ 100 ≤ f := by
  rcases q with q | q
  · omega
  · omega
theorem s_split {h0 : Hp} {m t e i lk : Nat} {O L : List Nat} {K : Hp → Prop} (he : e ≤ 20) (hm0 : kd h0 m = 2 ∨ kd h0 m = 3) (hlk : lk = if kd h0 m = 2 then 5 else 6) (hOk : ∀ b ∈ O, kd h0 b ≠ 0) (nd : O.Nodup) (mO : m ∉ O) (dl : kd h0 m = 3 → DL h0 m O) (hL : ∀ a ∈ L, a ∈ O) (hok : ∀ a ∈ L, NodeOK h0 a ∧ ix (2 ^ e) (it h0 0 a) = i) (hd : HD h0 L) (hnx : NXs h0 3 L none) (hk : ∀ a ∈ L, kd h0 a = 7) (htr : ∃ r S sub, Trg 7 8 h0 r S sub ∧ Srt h0 S ∧ S.Perm L) (ht : kd h0 t = 51) (hN : ln h0 t = 2 ^ e * 2) (hi : i < 2 ^ e) (hR : Rm h0 L.length (L.length * 6)) (r1 : rf h0 (100 + i) t = none) (r2 : rf h0 (100 + (i + 2 ^ e)) t = none)
    (fin : ∀ h' s lo hi, Evo (PS L t i (i + 2 ^ e)) h0 h' m O s → (∀ x, x ∉ L → s x = x) → (lo ++ hi).Perm (L.map s) → rf h' (100 + i) t = lo.head? → rf h' (100 + (i + 2 ^ e)) t = hi.head? → Bin h' lk (2 ^ e * 2) i lo → Bin h' lk (2 ^ e * 2) (i + 2 ^ e) hi → nc h' ≤ nc h0 + L.length → ns h' ≤ ns h0 + L.length * 6 → K h') :
    wp_J8_split h0 L.head? (some m) (some t) (nI i) (nI (2 ^ e)) K := by
  unfold wp_J8_split
  have p20 : 2 ^ e ≤ 2 ^ 20 := Nat.pow_le_pow_right (by decide) he
  refine ⟨L.length + 1, split_loop (h0 := h0) (L := L) hd.nd hk (fun h c n1 v1 n2 v2 => ?_) L [] h0 _ rfl (Nat.le_refl _) (Chg.refl _ h0) hnx trivial trivial trivial trivial⟩
  generalize hA : L.filter (lowB h0 (nI (2 ^ e))) = A at n1 v1 ⊢
  generalize hB : L.filter (fun a => !lowB h0 (nI (2 ^ e)) a) = B at n2 v2 ⊢
  have pAB : (A ++ B).Perm L := by rw [← hA, ← hB]; exact List.filter_append_perm _ _
  have AL : ∀ a ∈ A, a ∈ L := fun a ha => pAB.mem_iff.mp (List.mem_append_left _ ha)
  have BL : ∀ a ∈ B, a ∈ L := fun a ha => pAB.mem_iff.mp (List.mem_append_right _ ha)
  have ndAB := (pAB.nodup_iff.mpr hd.nd)
  have AB : ∀ a ∈ A, a ∉ B := fun a ha hb => (List.nodup_append.mp ndAB).2.2 a ha a hb rfl
  have slA : A.Sublist L := by rw [← hA]; exact List.filter_sublist
  have slB : B.Sublist L := by rw [← hB]; exact List.filter_sublist
  have len : A.length + B.length = L.length := by rw [← pAB.length_eq]; simp
  have c0 : ∀ f b, f ≠ 3 → f ≠ 9 → rf h f b = rf h0 f b ∧ it h f b = it h0 f b := fun f b h3 h9 => ⟨c.rf (fun q => by omega), c.it (fun q => by omega)⟩
  have E0 : Evo (PS L t i (i + 2 ^ e)) h0 h m O id := (c.mono (Q := PS L t i (i + 2 ^ e)) (fun f b q => Or.inl ⟨q.1, by omega⟩)).evo nd hOk (fun f x q => q.fl)
  have I0 : IntS h0 h := c.int (fun x q => by omega)
  have ixA : ∀ a ∈ A, ix (2 ^ e * 2) (it h 0 a) = i := fun a ha => by
    rw [(c0 0 a (by omega) (by omega)).2, ix_double he, (hok a (AL a ha)).2]
    rw [← hA] at ha
    have := (List.mem_filter.mp ha).2
    rw [if_pos (of_decide_eq_true this)]; rfl
  have ixB : ∀ a ∈ B, ix (2 ^ e * 2) (it h 0 a) = i + 2 ^ e := fun a ha => by
    rw [(c0 0 a (by omega) (by omega)).2, ix_double he, (hok a (BL a ha)).2]
    rw [← hB] at ha
    have := (List.mem_filter.mp ha).2
    rw [if_neg (fun q => by unfold lowB at this; rw [decide_eq_true q] at this; cases this)]
  have okh : ∀ a ∈ L, NodeOK h a := fun a ha => (hok a ha).1.fra I0 (c0 0 a (by omega) (by omega)).2 (c0 1 a (by omega) (by omega)).1 (c0 2 a (by omega) (by omega)).1
  have kdh : ∀ a ∈ L, kd h a = 7 := fun a ha => by rw [c.1]; exact hk a ha
  have hdh : HD h L := hd.fra (fun a ha => (c0 0 a (by omega) (by omega)).2)
  have trh : ∃ r S sub, Trg 7 8 h r S sub ∧ Srt h S ∧ S.Perm L := by
    obtain ⟨r, S, sub, k1, k2, k3⟩ := htr
    exact ⟨r, S, sub, k1.same (fun a _ => ⟨(c0 6 a (by omega) (by omega)).1, (c0 7 a (by omega) (by omega)).1, (c0 8 a (by omega) (by omega)).1⟩), k2.fra (fun a _ => (c0 0 a (by omega) (by omega)).2), k3⟩
  have dlh : kd h m = 3 → DL h m O := fun q => by
    have := E0.dl (by omega) dl q
    simpa using this
  have hth : kd h t = 51 := by rw [c.1]; exact ht
  have hNh : ln h t = 2 ^ e * 2 := by rw [c.2.1]; exact hN
  have hOh : ∀ b ∈ O, kd h b ≠ 0 := fun b hb => by rw [c.1]; exact hOk b hb
  have hlh : lk = if kd h m = 2 then 5 else 6 := by rw [c.1]; exact hlk
  have hmh : kd h m = 2 ∨ kd h m = 3 := by rw [c.1]; exact hm0
  have ncs : nc h = nc h0 ∧ ns h = ns h0 := ⟨c.2.2.1, c.2.2.2.1⟩
  have tL : t ∉ L := fun q => by have := hk t q; omega
  have r1h : rf h (100 + i) t = none := by rw [(c0 (100 + i) t (by omega) (by omega)).1]; exact r1
  have r2h : rf h (100 + (i + 2 ^ e)) t = none := by rw [(c0 (100 + (i + 2 ^ e)) t (by omega) (by omega)).1]; exact r2
  -- the high half
  have second : ∀ h1 s1 lo, Evo (PS L t i (i + 2 ^ e)) h0 h1 m O s1 → (∀ x, x ∉ A → s1 x = x) → lo.Perm (A.map s1) → rf h1 (100 + i) t = lo.head? → rf h1 (100 + (i + 2 ^ e)) t = none → Bin h1 lk (2 ^ e * 2) i lo → (∀ b ∈ B, ∀ f, f < 10 → f ≠ 4 → f ≠ 5 → rf h1 f b = rf h f b ∧ it h1 f b = it h f b) → nc h1 ≤ nc h0 + A.length → ns h1 ≤ ns h0 + A.length * 6 →
      wp_J8_split_b171 K h1 (some m) (some t) (nI i) (nI (2 ^ e)) A.head? B.head? (nI B.length) := by
    intro h1 s1 lo E1 s1x p1 q1 q2 b1 f1 c1 c2
    have sB : B.map s1 = B := by
      rw [List.map_congr_left (g := id) (fun b hb => s1x b (fun w => AB b w hb))]; simp
    have pm : ∀ hi : List Nat, hi.Perm B → (lo ++ hi).Perm (L.map s1) := fun hi ph => by
      have ph' : hi.Perm (B.map s1) := by rw [sB]; exact ph
      refine (p1.append ph').trans ?_
      rw [← List.map_append]
      exact pAB.map s1
    unfold wp_J8_split_b171
    refine ⟨fun q => ?_, fun b hb => ?_⟩
    · have hB0 : B = [] := by cases B with
        | nil => rfl
        | cons x X => cases q
      unfold wp_J8_split_b217
      refine fin h1 s1 lo [] E1 (fun x hx => s1x x (fun w => hx (AL x w))) (pm [] (by rw [hB0])) q1 (by rw [q2]; rfl) b1 (Bin.nil _ _ _ _) (by omega) (by omega)
    · have hne : B ≠ [] := fun w => by rw [w] at hb; cases hb
      have bO : ∀ b ∈ B, b ∈ O.map s1 := fun b hb => List.mem_map.mpr ⟨b, hL b (BL b hb), s1x b (fun w => AB b w hb)⟩
      have kdB : ∀ b ∈ B, kd h1 b = 7 := fun b hb => by rw [(E1.1.1 b (by rw [hk b (BL b hb)]; decide)).1]; exact hk b (BL b hb)
      have I1 : IntS h h1 := fun x hx => by
        have x0 : kd h0 x = 4 ∨ kd h0 x = 60 := by rw [← c.1]; exact hx
        obtain ⟨w1, w2⟩ := E1.int (fun x q => by have := q.fl; omega) x x0
        rw [c.1, (c0 23 x (by omega) (by omega)).2]
        exact ⟨w1, w2⟩
      have hm1 : kd h1 m = kd h0 m := (E1.1.1 m (by omega)).1
      have key := split_half (h := h1) (m := m) (t := t) (N := 2 ^ e * 2) (j := i + 2 ^ e) (lk := lk) (O := O.map s1) (A := B) (c := nI B.length) (i3 := nI i + nI (2 ^ e)) (oth := A.head?) (G := wp_J8_split_b217 K) (by rw [hm1]; exact hm0) (by rw [hm1]; exact hlk) (fun a ha => (okh a (BL a ha)).fra I1 (f1 a ha 0 (by omega) (by omega) (by omega)).2 (f1 a ha 1 (by omega) (by omega) (by omega)).1 (f1 a ha 2 (by omega) (by omega) (by omega)).1)
        (fun b hb => by obtain ⟨y, hy, rfl⟩ := List.mem_map.mp hb; exact (E1.2.1 y hy).2.1) E1.2.2.1 (fun w => by
          obtain ⟨y, hy, ey⟩ := List.mem_map.mp w
          rcases (E1.2.1 y hy).1 with z | z
          · exact mO (by rw [← ey, z]; exact hy)
          · rw [ey] at z; omega) (E1.dl (by omega) dl) bO hne kdB (HD.fra (h := h) (List.Pairwise.sublist slB hdh) (fun a ha => (f1 a ha 0 (by omega) (by omega) (by omega)).2)) (fun a ha => by rw [(f1 a ha 0 (by omega) (by omega) (by omega)).2]; exact ixB a ha) (NXs_fr (fun a ha => (f1 a ha 3 (by omega) (by omega) (by omega)).1) n2) (PVs_fr (fun a ha => (f1 a ha 9 (by omega) (by omega) (by omega)).1) v2) (by rw [(E1.1.1 t (by omega)).1]; exact ht) (by rw [(E1.1.1 t (by omega)).2]; exact hN) (by omega) (by rw [← nI_add]) (by unfold Rm at hR ⊢; omega)
        (fun w => by
          have hA0 : A = [] := by cases A with
            | nil => rfl
            | cons x X => cases w
          have LB : L.Perm B := by rw [hA0] at pAB; exact pAB.symm
          obtain ⟨r, S, sub, k1, k2, k3⟩ := trh
          have SB : ∀ a ∈ S, a ∈ B := fun a ha => (k3.trans LB).mem_iff.mp ha
          exact ⟨r, S, sub, k1.same (fun a ha => ⟨(f1 a (SB a ha) 6 (by omega) (by omega) (by omega)).1, (f1 a (SB a ha) 7 (by omega) (by omega) (by omega)).1, (f1 a (SB a ha) 8 (by omega) (by omega) (by omega)).1⟩), k2.fra (fun a ha => (f1 a (SB a ha) 0 (by omega) (by omega) (by omega)).2), k3.trans LB⟩)
        (fun h2 s2 hi2 E2 s2x p2 w1 b2 d1 d2 => ?_)
      · exact key
      · unfold wp_J8_split_b217
        have E12 := E1.trans E2 (fun f x hx q => by
          rcases q with q | q
          · exact Or.inl ⟨BL x q.1, q.2⟩
          · exact Or.inr ⟨q.1, Or.inr q.2⟩) (by omega)
        have loB : ∀ a ∈ lo, a ∉ B := fun a ha hb => by
          obtain ⟨y, hy, ey⟩ := List.mem_map.mp (p1.mem_iff.mp ha)
          rcases (E1.2.1 y (hL y (AL y hy))).1 with z | z
          · exact AB y hy (by rw [← z, ey]; exact hb)
          · rw [ey, hk a (BL a hb)] at z; cases z
        have lo2 : ∀ a ∈ lo, s2 a = a := fun a ha => s2x a (loB a ha)
        have loO : ∀ a ∈ lo, a ∈ O.map s1 := fun a ha => by
          obtain ⟨y, hy, ey⟩ := List.mem_map.mp (p1.mem_iff.mp ha)
          exact List.mem_map.mpr ⟨y, hL y (AL y hy), ey⟩
        have k1 : ∀ a ∈ lo, kd h1 a ≠ 0 := fun a ha => by
          obtain ⟨y, hy, ey⟩ := List.mem_map.mp (loO a ha)
          rw [← ey]; exact (E1.2.1 y hy).2.1
        have lot : ∀ a ∈ lo, a ≠ t := fun a ha w => by
          obtain ⟨y, hy, ey⟩ := List.mem_map.mp (loO a ha)
          rcases (E1.2.1 y hy).1 with z | z
          · obtain ⟨y', hy', ey'⟩ := List.mem_map.mp (p1.mem_iff.mp ha)
            rcases (E1.2.1 y' (hL y' (AL y' hy'))).1 with z' | z'
            · exact tL (by rw [← w, ← ey', z']; exact AL y' hy')
            · rw [ey', w] at z'; omega
          · rw [ey, w] at z; omega
        have fr2 : ∀ a ∈ lo, ∀ f, f ≠ 4 ∧ f ≠ 5 ∧ f ≠ 19 ∧ f ≠ 20 → rf h2 f a = rf h1 f a ∧ it h2 f a = it h1 f a := fun a ha f hf => E2.keep (k1 a ha) hf (fun q => by
          rcases q with q | q
          · exact loB a ha q.1
          · exact lot a ha q.1)
        refine fin h2 (fun x => s2 (s1 x)) lo hi2 E12 (fun x hx => ?_) ?_ ?_ w1 (b1.fra (E2.int PH.no) (fun a ha => (E2.1.1 a (k1 a ha)).1) (fun a ha => (fr2 a ha 0 (by decide)).2) (fun a ha f hf => (fr2 a ha f (by omega)).1)) b2 (by omega) (by omega)
        · rw [s1x x (fun w => hx (AL x w)), s2x x (fun w => hx (BL x w))]
        · have e1 : (L.map (fun x => s2 (s1 x))).Perm ((A ++ B).map (fun x => s2 (s1 x))) := (pAB.map _).symm
          refine List.Perm.trans ?_ e1.symm
          rw [List.map_append]
          refine List.Perm.append ?_ (p2.trans ?_)
          · have : (A.map (fun x => s2 (s1 x))) = (A.map s1).map s2 := by rw [List.map_map]; rfl
            rw [this]
            have := p1.map s2
            rw [List.map_congr_left (g := id) lo2] at this
            simpa using this
          · rw [show B.map (fun x => s2 (s1 x)) = (B.map s1).map s2 by rw [List.map_map]; rfl, sB]
        · rw [← q1]
          refine (E2.keep (by rw [(E1.1.1 t (by omega)).1]; omega) (by omega) (fun q => ?_)).1
          rcases q with q | q
          · exact tL (BL t q.1)
          · omega
  unfold splitEnd
  refine ⟨fun q => ?_, fun a ha => ?_⟩
  · have hA0 : A = [] := by cases A with
      | nil => rfl
      | cons x X => cases q
    have := second h id [] E0 (fun _ _ => rfl) (by rw [hA0]; simp) (by rw [r1h]; rfl) r2h (Bin.nil _ _ _ _) (fun _ _ _ _ _ _ => ⟨rfl, rfl⟩) (by omega) (by omega)
    exact this
  · have hne : A ≠ [] := fun w => by rw [w] at ha; cases ha
    refine split_half (h := h) (m := m) (t := t) (N := 2 ^ e * 2) (j := i) (lk := lk) (O := O) (A := A) (c := nI A.length) (i3 := nI i) (oth := B.head?) (G := fun h' => wp_J8_split_b171 K h' (some m) (some t) (nI i) (nI (2 ^ e)) A.head? B.head? (nI B.length)) hmh hlh (fun a ha => okh a (AL a ha)) hOh nd mO dlh (fun a ha => hL a (AL a ha)) hne (fun a ha => kdh a (AL a ha)) (List.Pairwise.sublist slA hdh : HD h A) ixA n1 v1 hth hNh (by omega) rfl (by unfold Rm at hR ⊢; omega) (fun w => ?_) (fun h2 s2 A' E2 s2x p2 w1 b2 d1 d2 => ?_)
    · have hB0 : B = [] := by cases B with
        | nil => rfl
        | cons x X => cases w
      have LA : L.Perm A := by rw [hB0] at pAB; simpa using pAB.symm
      obtain ⟨r, S, sub, k1, k2, k3⟩ := trh
      exact ⟨r, S, sub, k1, k2, k3.trans LA⟩
    · have E2' : Evo (PS L t i (i + 2 ^ e)) h0 h2 m O s2 := by
        have := E0.trans (s2 := s2) (Q := PH A t i) (h2 := h2) (by simpa using E2) (fun f x hx q => by
          rcases q with q | q
          · exact Or.inl ⟨AL x q.1, q.2⟩
          · exact Or.inr ⟨q.1, Or.inl q.2⟩) (by omega)
        exact this
      refine second h2 s2 A' E2' s2x p2 w1 ?_ b2 (fun b hb f hf h4 h5 => ?_) (by omega) (by omega)
      · rw [← r2h]
        refine (E2.keep (by omega) (by omega) (fun q => ?_)).1
        rcases q with q | q
        · exact tL (AL t q.1)
        · have : 0 < 2 ^ e := Nat.pow_pos (by decide)
          omega
      · refine E2.keep (by rw [kdh b (BL b hb)]; decide) (by omega) (fun q => ?_)
        rcases q with q | q
        · exact AB b q.1 hb
        · omega
