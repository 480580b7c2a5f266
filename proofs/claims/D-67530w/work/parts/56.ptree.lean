/-! A NEW NODE COMES IN; putTreeVal -/
set_option maxRecDepth 100000
/-- a new node a has come into the map m (order O, a behind all); P: what else of the old cells has changed -/
def InsN (P : Nat → Nat → Prop) (h h' : Hp) (m : Nat) (O : List Nat) (a : Nat) (z : Int32) (ko vo : Option Nat) : Prop :=
  Ex h h' ∧ kd h a = 0 ∧ kd h' a ≠ 0 ∧ (it h' 0 a = z ∧ rf h' 1 a = ko ∧ rf h' 2 a = vo) ∧
  (∀ f b, kd h b ≠ 0 → ((b = m ∧ (f = 19 ∨ f = 20)) ∨ (b ∈ O ∧ (f = 4 ∨ f = 5)) ∨ P f b) ∨ (rf h' f b = rf h f b ∧ it h' f b = it h f b)) ∧ (kd h m = 3 → DL h' m (O ++ [a]))
theorem NewN.insN {P : Nat → Nat → Prop} {h h' : Hp} {m : Nat} {O : List Nat} {a K : Nat} {z : Int32} {ko vo nx : Option Nat} (k : NewN h h' m O a K z ko vo nx) (hK : K ≠ 0) (d : kd h m = 3 → DL h' m (O ++ [a])) : InsN P h h' m O a z ko vo := by
  obtain ⟨k1, k2, k3, k4, k5, ⟨g1, g2, g3, g4, g5⟩, k7⟩ := k
  have ne : ∀ b, kd h b ≠ 0 → b ≠ a := fun b hb e => hb (e ▸ k1)
  refine ⟨⟨fun b hb => k3 b (ne b hb), by rw [k4]; omega, by rw [k5]; omega⟩, k1, by rw [k2]; exact hK, ⟨g1, g2, g3⟩, fun f b hb => ?_, d⟩
  obtain ⟨w1, w2⟩ := k7 f b (ne b hb)
  rcases w2 with w | w | w
  · exact Or.inl (Or.inl w)
  · exact Or.inl (Or.inr (Or.inl w))
  · exact Or.inr ⟨w, w1⟩
theorem InsN.chg {P Q : Nat → Nat → Prop} {h h' h2 : Hp} {m : Nat} {O : List Nat} {a : Nat} {z : Int32} {ko vo : Option Nat} (k : InsN P h h' m O a z ko vo) (c : Chg Q h' h2) (hQ : ∀ f x, kd h x ≠ 0 → Q f x → P f x) (hQ2 : ∀ f x, Q f x → f = 3 ∨ (6 ≤ f ∧ f ≤ 10) ∨ 100 ≤ f) : InsN P h h2 m O a z ko vo := by
  obtain ⟨k1, k2, k3, ⟨g1, g2, g3⟩, k5, k6⟩ := k
  have c1 : ∀ f x, (f < 3 ∨ f = 4 ∨ f = 5 ∨ f = 19 ∨ f = 20) → rf h2 f x = rf h' f x ∧ it h2 f x = it h' f x := fun f x hf => ⟨c.rf (fun q => by have := hQ2 f x q; omega), c.it (fun q => by have := hQ2 f x q; omega)⟩
  refine ⟨k1.trans c.ex, k2, by rw [c.1]; exact k3, ⟨by rw [(c1 0 a (by omega)).2]; exact g1, by rw [(c1 1 a (by omega)).1]; exact g2, by rw [(c1 2 a (by omega)).1]; exact g3⟩, fun f b hb => ?_, fun q => (k6 q).fra (c1 19 m (by omega)).1 (c1 20 m (by omega)).1 (fun x _ => (c1 5 x (by omega)).1) (fun x _ => (c1 4 x (by omega)).1)⟩
  rcases c.2.2.2.2 f b with q | q
  · exact Or.inl (Or.inr (Or.inr (hQ f b hb q)))
  · rcases k5 f b hb with w | w
    · exact Or.inl w
    · exact Or.inr ⟨q.1.trans w.1, q.2.trans w.2⟩
theorem InsN.keep {P : Nat → Nat → Prop} {h h' : Hp} {m : Nat} {O : List Nat} {a : Nat} {z : Int32} {ko vo : Option Nat} (k : InsN P h h' m O a z ko vo) {f b : Nat} (hb : kd h b ≠ 0) (hf : f ≠ 4 ∧ f ≠ 5 ∧ f ≠ 19 ∧ f ≠ 20) (hP : ¬ P f b) : rf h' f b = rf h f b ∧ it h' f b = it h f b := by
  rcases k.2.2.2.2.1 f b hb with q | q
  · rcases q with q | q | q
    · omega
    · omega
    · exact absurd q hP
  · exact q
theorem InsN.int {P : Nat → Nat → Prop} {h h' : Hp} {m : Nat} {O : List Nat} {a : Nat} {z : Int32} {ko vo : Option Nat} (k : InsN P h h' m O a z ko vo) (hP : ∀ x, ¬ P 23 x) : IntS h h' := fun b hb => by
  have b0 : kd h b ≠ 0 := by omega
  exact ⟨(k.1.1 b b0).1, (k.keep b0 (by decide) (hP b)).2⟩
theorem MB.ins {h h' : Hp} {m n t i a : Nat} {bn : Nat → List Nat} {O L' : List Nat} {z : Int32} {ko vo : Option Nat} (k : MB h m n bn O) (ht : rf h 13 m = some t) (hi : i < n) (E : InsN (PH (bn i) t i) h h' m O a z ko vo) (p : L'.Perm (a :: bn i)) (e : rf h' (100 + i) t = L'.head?) (b : Bin h' (lkOf h m) n i L') : MB h' m n (updB bn i L') (O ++ [a]) := by
  obtain ⟨k1, k2, k3, k4, k5, k6, k7, k8⟩ := k
  have m0 : kd h m ≠ 0 := by rcases k1 with w | w <;> rw [w] <;> decide
  have em := (E.1.1 m m0).1
  have el : lkOf h' m = lkOf h m := by unfold lkOf; rw [em]
  rcases k5 with w | ⟨ee, t1, w1, w2, w3, w4⟩
  · omega
  · rw [ht] at w3
    cases w3
    have p11 : 2 ^ ee ≤ 2 ^ 11 := Nat.pow_le_pow_right (by decide) w1
    have lk0 := lkOf_ok h m
    have bi := (w4.2.2 i hi).2
    have mL : m ∉ bn i := fun w => by have := bi.kd lk0 w; omega
    have tL : t ∉ bn i := fun w => by have := bi.kd lk0 w; have := w4.1; omega
    have tm : m ≠ t := fun w => by have := w4.1; rw [← w] at this; omega
    have gm : ∀ f, f = 13 ∨ f = 17 ∨ f = 18 → rf h' f m = rf h f m ∧ it h' f m = it h f m := fun f hf => E.keep m0 (by omega) (fun q => by
      rcases q with q | q
      · exact mL q.1
      · exact tm q.1)
    have T' : Tab h' (lkOf h m) t n (updB bn i L') := w4.upd lk0 hi (by omega) E.1 (E.int PH.no) (fun b f h1 h2 hb hf => by
      have nP : ∀ f, ¬ PH (bn i) t i f b := fun f q => by
        rcases q with q | q
        · exact hb q.1
        · rw [q.1] at h2; have := w4.1; omega
      exact ⟨(E.keep (by omega) (by omega) (nP f)).1, (E.keep (by omega) (by omega) (nP 0)).2⟩) (fun j hj hji => (E.keep (by have := w4.1; omega) (by omega) (fun q => by
      rcases q with q | q
      · exact tL q.1
      · omega)).1) e b
    have pp : (O ++ [a]).Perm (nodes n (updB bn i L')) := by
      refine (List.perm_append_comm.trans ?_)
      refine List.Perm.trans ?_ (nodes_updB_perm hi [a] p).symm
      exact k3.cons a
    refine ⟨by rw [em]; exact k1, ?_, pp, fun x hx => ?_, Or.inr ⟨ee, t, w1, w2, by rw [(gm 13 (by omega)).1]; exact ht, by rw [el]; exact T'⟩, fun w => E.2.2.2.2.2 (by rw [← em]; exact w), by rw [(gm 18 (by omega)).2]; exact k7, ?_⟩
    · rw [List.nodup_append]
      refine ⟨k2, by simp, fun x hx y hy e => ?_⟩
      have := k4 x hx
      rw [e, List.mem_singleton.mp hy, E.2.1] at this
      omega
    · obtain ⟨j, hj, ha⟩ := mem_nodes.mp (pp.mem_iff.mp hx)
      exact (T'.2.2 j hj).2.kd lk0 ha
    · unfold TH at k8 ⊢
      rw [(gm 17 (by omega)).2]; exact k8
theorem ptv_ins {h h1 : Hp} {m t n i lk p x r : Nat} {O L S : List Nat} {sub : Nat → List Nat} {z : Int32} {c v : Nat} {K : Option Nat → Hp → Prop} {f : Nat} (hlk : lk = 5 ∨ lk = 6) (b : Bin h lk n i L) (hk : ∀ a ∈ L, kd h a = 7) (hpv : PVs h 9 none L) (kt : kd h t = 51) (lt : ln h t = n) (hi : i < n) (hh : rf h (100 + i) t = L.head?) (kT : Trg 7 8 h r S sub) (hs : Srt h S) (pS : S.Perm L) (hO : ∀ a ∈ L, a ∈ O) (hp : p ∈ S) (d : Dsc h S sub z p) (hf : (f = 7 ∧ z < it h 0 p) ∨ (f = 8 ∧ it h 0 p < z)) (hfn : rf h f p = none)
    (hz : z = spr (it h 23 c)) (kc : kd h c = 4 ∨ kd h c = 60) (kv : kd h v = 4 ∨ kd h v = 60) (hzi : ix n z = i) (m0 : kd h m ≠ 0) (mL : m ∉ L)
    (N : NewN h h1 m O x 7 z (some c) (some v) (rf h 3 p)) (D : kd h m = 3 → DL h1 m (O ++ [x]))
    (fin : ∀ h' a L', InsN (PH L t i) h h' m O a z (some c) (some v) → kd h' a = 7 → L'.Perm (a :: L) → rf h' (100 + i) t = L'.head? → Bin h' lk n i L' → nc h' = nc h + 1 → ns h' = ns h + 11 → K none h') :
    ∀ h2, h2 = wR h1 f p (some x) → wp_J8_putTreeVal_b263 K h2 (some t) (some r) (some p) (rf h 3 p) (some x) := by
  rintro h2 rfl
  obtain ⟨N1, N2, N3, N4, N5, ⟨g1, g2, g3, g4, g5⟩, N7⟩ := id N
  have pL : p ∈ L := pS.mem_iff.mp hp
  have xL : x ∉ L := fun w => by have := hk x w; omega
  have px : p ≠ x := fun w => xL (w ▸ pL)
  have tx : t ≠ x := fun w => by rw [w] at kt; omega
  have tL : t ∉ L := fun w => by have := hk t w; omega
  have ndL : L.Nodup := b.2.1.nd
  obtain ⟨X, Y, eL⟩ := split_at pL
  have p3 : rf h 3 p = Y.head? := by
    have := b.2.2.1
    rw [eL] at this
    have := NXs_at this
    simpa using this
  have nxp := b.2.2.1
  rw [eL] at ndL nxp hpv
  have nd' := List.nodup_append.mp ndL
  have pY : p ∉ Y := (List.nodup_cons.mp nd'.2.1).1
  have pX : p ∉ X := fun w => nd'.2.2 p w p List.mem_cons_self rfl
  have XY : ∀ a ∈ X, a ∉ Y := fun a ha hy => nd'.2.2 a ha a (List.mem_cons_of_mem _ hy) rfl
  have inL : ∀ a, a ∈ X ∨ a = p ∨ a ∈ Y → a ∈ L := fun a ha => by rw [eL]; simp; omega
  have xX : x ∉ X := fun w => xL (inL x (Or.inl w))
  have xY : x ∉ Y := fun w => xL (inL x (Or.inr (Or.inr w)))
  -- the cells of the bin are as they were
  have o1 : ∀ g a, a ∈ L → g ≠ 4 → g ≠ 5 → rf h1 g a = rf h g a ∧ it h1 g a = it h g a := fun g a ha h4 h5 => by
    have ax : a ≠ x := fun w => xL (w ▸ ha)
    obtain ⟨w1, w2⟩ := N7 g a ax
    refine ⟨?_, w1⟩
    rcases w2 with w | w | w
    · exact absurd (w.1 ▸ ha) mL
    · omega
    · exact w
  have ot : ∀ g, g ≠ 19 → g ≠ 20 → g ≠ 4 → g ≠ 5 → rf h1 g t = rf h g t := fun g q1 q2 q3 q4 => by
    obtain ⟨w1, w2⟩ := N7 g t tx
    rcases w2 with w | w | w
    · omega
    · omega
    · exact w
  -- the state that is handed to the balancing
  have hf78 : f = 7 ∨ f = 8 := by omega
  have run : ∀ hF, Chg (fun g a => (a = x ∨ a ∈ L) ∧ (g = 3 ∨ (6 ≤ g ∧ g ≤ 10))) h1 hF → rf hF 6 x = some p → rf hF 7 x = none → rf hF 8 x = none → (∀ a ∈ L, rf hF 6 a = rf h1 6 a) → (∀ g a, a ∈ L → (g = 7 ∨ g = 8) → ¬ (g = f ∧ a = p) → rf hF g a = rf h1 g a) → rf hF f p = some x → NXs hF 3 (X ++ p :: x :: Y) none → PVs hF 9 none (X ++ p :: x :: Y) → wp_J8_putTreeVal_b298 K hF (some t) (some r) (some x) := by
    intro hF cF e6 e7 e8 f6 f78 fp nF vF
    have SL : ∀ a ∈ S, a ∈ L := fun a ha => pS.mem_iff.mp ha
    have itF : ∀ a, it hF 0 a = it h1 0 a := fun a => cF.it (fun q => by omega)
    have kT1 : Trg 7 8 h1 r S sub := kT.same (fun a ha => ⟨(o1 6 a (SL a ha) (by omega) (by omega)).1, (o1 7 a (SL a ha) (by omega) (by omega)).1, (o1 8 a (SL a ha) (by omega) (by omega)).1⟩)
    have hs1 : Srt h1 S := hs.fra (fun a ha => (o1 0 a (SL a ha) (by omega) (by omega)).2)
    have xS : x ∉ S := fun w => xL (SL x w)
    have zF : it hF 0 x = z := (itF x).trans g1
    have d1 : Dsc h1 S sub (it hF 0 x) p := by
      rw [zF]
      obtain ⟨A, B, q1, q2, q3⟩ := d
      have sA : ∀ a, a ∈ A ∨ a ∈ B → a ∈ S := fun a ha => by rw [q1]; simp; rcases ha with w | w <;> simp [w]
      exact ⟨A, B, q1, fun a ha => by rw [(o1 0 a (SL a (sA a (Or.inl ha))) (by omega) (by omega)).2]; exact q2 a ha, fun a ha => by rw [(o1 0 a (SL a (sA a (Or.inr ha))) (by omega) (by omega)).2]; exact q3 a ha⟩
    have itp : it h1 0 p = it h 0 p := (o1 0 p pL (by omega) (by omega)).2
    obtain ⟨S', sub', k', hs', hperm⟩ := leaf_in (h' := hF) kT1 hs1 hp xS d1 (fun a _ => itF a) e6 e7 e8 (fun a ha => f6 a (SL a ha)) (fun a ha q => ⟨f78 7 a (SL a ha) (Or.inl rfl) (fun w => q w.2), f78 8 a (SL a ha) (Or.inr rfl) (fun w => q w.2)⟩)
      (by
        rw [zF, itp]
        rcases hf with ⟨rfl, hlt⟩ | ⟨rfl, hlt⟩
        · exact Or.inl ⟨hlt, by rw [(o1 7 p pL (by omega) (by omega)).1]; exact hfn, fp, f78 8 p pL (Or.inr rfl) (by omega)⟩
        · exact Or.inr ⟨hlt, by rw [(o1 8 p pL (by omega) (by omega)).1]; exact hfn, fp, f78 7 p pL (Or.inl rfl) (by omega)⟩)
    have S'L : ∀ a, a ∈ S' ↔ a ∈ X ++ p :: x :: Y := fun a => by
      rw [hperm.mem_iff, List.mem_cons, pS.mem_iff, eL]
      simp only [List.mem_append, List.mem_cons]
      constructor
      · rintro (w | w | w | w) <;> simp [w]
      · rintro (w | w | w | w) <;> simp [w]
    unfold wp_J8_putTreeVal_b298
    refine s_balanceInsertion k' (hperm.mem_iff.mpr List.mem_cons_self) (fun h3 r3 q1 q2 _ => ?_)
    obtain ⟨sub3, k3⟩ := q1
    have c3 := q2.chg
    have hs3 : Srt h3 S' := hs'.fra (fun a _ => c3.it (fun w => by omega))
    have r3L : r3 ∈ X ++ p :: x :: Y := (S'L r3).mp k3.2.1
    obtain ⟨X3, Y3, e3⟩ := split_at r3L
    have nd3 : (X ++ p :: x :: Y).Nodup := by
      have : (X ++ p :: x :: Y).Perm (x :: L) := by
        rw [eL]
        have : (X ++ p :: x :: Y) = (X ++ [p]) ++ x :: Y := by simp
        rw [this]
        refine List.perm_middle.trans ?_
        simp
      exact this.nodup_iff.mpr (List.nodup_cons.mpr ⟨xL, b.2.1.nd⟩)
    have kd3 : ∀ a ∈ X ++ p :: x :: Y, kd h3 a = 7 := fun a ha => by
      rw [c3.1, cF.1]
      rcases List.mem_append.mp ha with w | w
      · rw [(N3 a (fun q => xX (q ▸ w))).1]; exact hk a (inL a (Or.inl w))
      · rcases List.mem_cons.mp w with w | w
        · rw [w, (N3 p px).1]; exact hk p pL
        · rcases List.mem_cons.mp w with w | w
          · rw [w]; exact N2
          · rw [(N3 a (fun q => xY (q ▸ w))).1]; exact hk a (inL a (Or.inr (Or.inr w)))
    have xk : ∀ a, a ∈ X ++ p :: x :: Y → a = x ∨ a ∈ L := fun a ha => by
      rw [eL]
      simp only [List.mem_append, List.mem_cons] at ha ⊢
      rcases ha with w | w | w | w <;> simp [w]
    have itx : it h3 0 x = z := by rw [c3.it (fun w => by omega), itF]; exact g1
    have it3 : ∀ a ∈ L, it h3 0 a = it h 0 a := fun a ha => by
      rw [c3.it (fun w => by omega), itF]; exact (o1 0 a ha (by omega) (by omega)).2
    have ix3 : ∀ a ∈ X ++ p :: x :: Y, ix n (it h3 0 a) = i := fun a ha => by
      rcases xk a ha with w | w
      · rw [w, itx]; exact hzi
      · rw [it3 a w]; exact (b.1 a w).2
    have rft : ∀ g, 100 ≤ g → rf h3 g t = rf h g t := fun g hg => by
      rw [c3.rf (fun w => by omega), cF.rf (fun w => by omega)]; exact ot g (by omega) (by omega) (by omega) (by omega)
    have hhead : L.head? = (X ++ p :: x :: Y).head? := by rw [eL]; cases X <;> rfl
    have ln3 : ln h3 t = n := by rw [c3.2.1, cF.2.1, (N3 t tx).2]; exact lt
    have kt3 : kd h3 t = 51 := by rw [c3.1, cF.1, (N3 t tx).1]; exact kt
    have n3 : NXs h3 3 (X ++ p :: x :: Y) none := NXs_fr (fun a _ => c3.rf (fun w => by omega)) nF
    have v3 : PVs h3 9 none (X ++ p :: x :: Y) := PVs_fr (fun a _ => c3.rf (fun w => by omega)) vF
    have i3 := ix3 r3 r3L
    rw [e3] at nd3 n3 v3
    refine s_moveRootToFront (n := n) ln3 (by omega) nd3 (by rw [← e3]; exact kd3) ?_ n3 v3 kt3 (fun h4 c4 q4 n4 v4 _ => ?_)
    · rw [i3, rft _ (by omega), hh, hhead, e3]
    · rw [i3] at c4 q4
      have P4 : (r3 :: (X3 ++ Y3)).Perm (x :: L) := by
        refine List.Perm.trans (List.perm_middle.symm) ?_
        rw [← e3, eL]
        have : (X ++ p :: x :: Y) = (X ++ [p]) ++ x :: Y := by simp
        rw [this]
        refine List.perm_middle.trans ?_
        simp
      have CC : Chg (fun g a => ((a = x ∨ a ∈ L) ∧ (g = 3 ∨ (6 ≤ g ∧ g ≤ 10))) ∨ (a = t ∧ g = 100 + i)) h1 h4 := by
        refine ((cF.mono (fun g a w => Or.inl w)).trans (c3.mono (fun g a w => Or.inl ⟨?_, ?_⟩))).trans (c4.mono (fun g a w => ?_))
        · exact xk a ((S'L a).mp w.1)
        · omega
        · rcases w with w | w
          · exact Or.inl ⟨xk a (by rw [e3]; exact w.1), by omega⟩
          · exact Or.inr w
      have IN : InsN (PH L t i) h h4 m O x z (some c) (some v) := (N.insN (P := PH L t i) (by decide) D).chg CC (fun g a a0 w => by
        rcases w with w | w
        · rcases w.1 with q | q
          · rw [q] at a0; exact absurd N1 a0
          · exact Or.inl ⟨q, w.2⟩
        · exact Or.inr w) (fun g a w => by omega)
      have II : IntS h h4 := IN.int PH.no
      have keep : ∀ a ∈ L, ∀ g, g < 3 → rf h4 g a = rf h g a ∧ it h4 g a = it h g a := fun a ha g hg => IN.keep (by rw [hk a ha]; decide) (by omega) (fun q => by have := q.fl; omega)
      have it4 : ∀ a, it h4 0 a = it h3 0 a := fun a => c4.it (fun w => by omega)
      have SP : S'.Perm (r3 :: (X3 ++ Y3)) := (hperm.trans (pS.cons x)).trans P4.symm
      have hs4 : Srt h4 S' := hs3.fra (fun a _ => it4 a)
      have k4 : Trg 7 8 h4 r3 S' sub3 := k3.same (fun a _ => ⟨c4.rf (fun w => by omega), c4.rf (fun w => by omega), c4.rf (fun w => by omega)⟩)
      refine fin h4 x (r3 :: (X3 ++ Y3)) IN (by rw [c4.1]; exact kd3 x (by simp)) P4 q4 ⟨fun a ha => ?_, hs4.hd.perm SP, n4, Or.inr ⟨fun a ha => ?_, v4, r3, S', sub3, k4, hs4, SP⟩⟩ ?_ ?_
      · have ha' := P4.mem_iff.mp ha
        rcases List.mem_cons.mp ha' with w | w
        · subst w
          obtain ⟨-, -, -, ⟨y1, y2, y3⟩, -⟩ := id IN
          refine ⟨⟨⟨c, y2, by rw [(II c kc).1]; exact kc, by rw [y1, (II c kc).2]; exact hz⟩, ⟨v, y3, by rw [(II v kv).1]; exact kv⟩⟩, by rw [y1]; exact hzi⟩
        · exact ⟨(b.1 a w).1.fra II (keep a w 0 (by omega)).2 (keep a w 1 (by omega)).1 (keep a w 2 (by omega)).1, by rw [(keep a w 0 (by omega)).2]; exact (b.1 a w).2⟩
      · rw [c4.1]
        refine kd3 a ?_
        rw [e3]
        exact (List.perm_middle.mem_iff).mpr ha
      · rw [CC.2.2.1]; exact N4
      · rw [CC.2.2.2.1, N5]; rfl
  unfold wp_J8_putTreeVal_b263
  refine ⟨p, rfl, ?_⟩
  rintro h3 rfl
  refine ⟨x, rfl, ?_⟩
  rintro h4 rfl h5 rfl
  have g8 : ∀ g, g = 7 ∨ g = 8 → rf h1 g x = none := fun g hg => g5 g (by omega)
  have yne : ∀ y, Y.head? = some y → y ∈ Y := fun y hy => List.mem_of_mem_head? hy
  have base : ∀ g a, a ≠ x → a ≠ p → rf (wR (wR (wR (wR h1 f p (some x)) 3 p (some x)) 9 x (some p)) 6 x (some p)) g a = rf h1 g a := fun g a ax ap => by
    rw [rf_wR, if_neg (fun w => ax w.2), rf_wR, if_neg (fun w => ax w.2), rf_wR, if_neg (fun w => ap w.2), rf_wR, if_neg (fun w => ap w.2)]
  have CB : Chg (fun g a => (a = x ∨ a ∈ L) ∧ (g = 3 ∨ (6 ≤ g ∧ g ≤ 10))) h1 (wR (wR (wR (wR h1 f p (some x)) 3 p (some x)) 9 x (some p)) 6 x (some p)) :=
    ((((Chg.refl _ h1).wR _ ⟨Or.inr pL, by omega⟩).wR _ ⟨Or.inr pL, by omega⟩).wR _ ⟨Or.inl rfl, by omega⟩).wR _ ⟨Or.inl rfl, by omega⟩
  have bp : ∀ g, g ≠ f → g ≠ 3 → rf (wR (wR (wR (wR h1 f p (some x)) 3 p (some x)) 9 x (some p)) 6 x (some p)) g p = rf h1 g p := fun g h1 h2 => by
    rw [rf_wR, if_neg (fun w => px w.2), rf_wR, if_neg (fun w => px w.2), rf_wR, if_neg (fun w => h2 w.1), rf_wR, if_neg (fun w => h1 w.1)]
  have bx : ∀ g, g ≠ 6 → g ≠ 9 → rf (wR (wR (wR (wR h1 f p (some x)) 3 p (some x)) 9 x (some p)) 6 x (some p)) g x = rf h1 g x := fun g h1 h2 => by
    rw [rf_wR, if_neg (fun w => h1 w.1), rf_wR, if_neg (fun w => h2 w.1), rf_wR, if_neg (fun w => px w.2.symm), rf_wR, if_neg (fun w => px w.2.symm)]
  have b6 : rf (wR (wR (wR (wR h1 f p (some x)) 3 p (some x)) 9 x (some p)) 6 x (some p)) 6 x = some p := by rw [rf_wR, if_pos ⟨rfl, rfl⟩]
  have b9 : rf (wR (wR (wR (wR h1 f p (some x)) 3 p (some x)) 9 x (some p)) 6 x (some p)) 9 x = some p := by rw [rf_wR, if_neg (by omega), rf_wR, if_pos ⟨rfl, rfl⟩]
  have b3 : rf (wR (wR (wR (wR h1 f p (some x)) 3 p (some x)) 9 x (some p)) 6 x (some p)) 3 p = some x := by rw [rf_wR, if_neg (by omega), rf_wR, if_neg (by omega), rf_wR, if_pos ⟨rfl, rfl⟩]
  have bf : rf (wR (wR (wR (wR h1 f p (some x)) 3 p (some x)) 9 x (some p)) 6 x (some p)) f p = some x := by rw [rf_wR, if_neg (by omega), rf_wR, if_neg (by omega), rf_wR, if_neg (by omega), rf_wR, if_pos ⟨rfl, rfl⟩]
  generalize wR (wR (wR (wR h1 f p (some x)) 3 p (some x)) 9 x (some p)) 6 x (some p) = hB at base CB bp bx b6 b9 b3 bf
  obtain ⟨nX, n2, nY⟩ := (NXs_app h 3 none X (p :: Y)).mp nxp
  obtain ⟨vX, v2, vY⟩ := (PVs_app h 9 none X (p :: Y)).mp hpv
  have neX : ∀ a ∈ X, a ≠ x ∧ a ≠ p := fun a ha => ⟨fun w => xX (w ▸ ha), fun w => pX (w ▸ ha)⟩
  have neY : ∀ a ∈ Y, a ≠ x ∧ a ≠ p := fun a ha => ⟨fun w => xY (w ▸ ha), fun w => pY (w ▸ ha)⟩
  have oX : ∀ g a, a ∈ X → g ≠ 4 → g ≠ 5 → rf hB g a = rf h g a := fun g a ha q4 q5 => by rw [base g a (neX a ha).1 (neX a ha).2]; exact (o1 g a (inL a (Or.inl ha)) q4 q5).1
  have oY : ∀ g a, a ∈ Y → g ≠ 4 → g ≠ 5 → rf hB g a = rf h g a := fun g a ha q4 q5 => by rw [base g a (neY a ha).1 (neY a ha).2]; exact (o1 g a (inL a (Or.inr (Or.inr ha))) q4 q5).1
  have nB : NXs hB 3 (X ++ p :: x :: Y) none := by
    refine (NXs_app hB 3 none X (p :: x :: Y)).mpr ⟨?_, by rw [b3]; rfl, ?_, NXs_fr (fun a ha => oY 3 a ha (by omega) (by omega)) nY⟩
    · exact NXs_fr (fun a ha => oX 3 a ha (by omega) (by omega)) nX
    · rw [bx 3 (by omega) (by omega), g4, p3]; simp
  have p9 : rf hB 9 p = rf h 9 p := by rw [bp 9 (by omega) (by omega)]; exact (o1 9 p pL (by omega) (by omega)).1
  have six : ∀ a ∈ L, rf hB 6 a = rf h1 6 a := fun a ha => by
    by_cases q : a = p
    · rw [q]; exact bp 6 (by omega) (by omega)
    · exact base 6 a (fun w => xL (w ▸ ha)) q
  have sev : ∀ g a, a ∈ L → (g = 7 ∨ g = 8) → ¬ (g = f ∧ a = p) → rf hB g a = rf h1 g a := fun g a ha hg hn => by
    by_cases q : a = p
    · rw [q]; exact bp g (fun w => hn ⟨w, q⟩) (by omega)
    · exact base g a (fun w => xL (w ▸ ha)) q
  rw [p3]
  refine ⟨fun q => ?_, fun y hy => ⟨fun a ha => ?_, ?_⟩⟩
  · have hY : Y = [] := by cases Y with
      | nil => rfl
      | cons y Y => cases q
    subst hY
    refine run hB CB b6 (by rw [bx 7 (by omega) (by omega)]; exact g8 7 (by omega)) (by rw [bx 8 (by omega) (by omega)]; exact g8 8 (by omega)) six sev bf nB ?_
    refine (PVs_app hB 9 none X [p, x]).mpr ⟨PVs_fr (fun a ha => oX 9 a ha (by omega) (by omega)) vX, by rw [p9]; exact v2, b9, trivial⟩
  · have aY := yne a ha
    rw [CB.1, (N3 a (neY a aY).1).1, hk a (inL a (Or.inr (Or.inr aY)))]; decide
  · rintro h6 rfl
    have yY := yne y hy
    have w9 : ∀ g a, ¬ (g = 9 ∧ a = y) → rf (wR hB 9 y (some x)) g a = rf hB g a := fun g a hn => by rw [rf_wR, if_neg hn]
    refine run (wR hB 9 y (some x)) (CB.wR _ ⟨Or.inr (inL y (Or.inr (Or.inr yY))), by omega⟩) (by rw [w9 _ _ (by omega)]; exact b6) (by rw [w9 _ _ (by omega), bx 7 (by omega) (by omega)]; exact g8 7 (by omega)) (by rw [w9 _ _ (by omega), bx 8 (by omega) (by omega)]; exact g8 8 (by omega)) (fun a ha => by rw [w9 _ _ (by omega)]; exact six a ha) (fun g a ha hg hn => by rw [w9 _ _ (by omega)]; exact sev g a ha hg hn) (by rw [w9 _ _ (by omega)]; exact bf) (NXs_fr (fun a _ => w9 3 a (by omega)) nB) ?_
    refine (PVs_app _ 9 none X (p :: x :: Y)).mpr ⟨PVs_fr (fun a ha => ?_) vX, ?_, ?_, ?_⟩
    · rw [w9 9 a (fun w => XY a ha (w.2 ▸ yY))]; exact oX 9 a ha (by omega) (by omega)
    · rw [w9 9 p (fun w => (neY y yY).2 w.2.symm), p9]; exact v2
    · rw [w9 9 x (fun w => (neY y yY).1 w.2.symm)]; exact b9
    · refine PVs_re vY (List.nodup_cons.mp nd'.2.1).2 (fun c hc => ?_) (fun a ha hn => ?_)
      · rw [hy] at hc; cases hc
        rw [rf_wR, if_pos ⟨rfl, rfl⟩]
      · rw [w9 9 a (fun w => hn (by rw [w.2]; exact hy))]; exact oY 9 a ha (by omega) (by omega)

theorem ptv_loop {h : Hp} {m t n i lk r : Nat} {O L S : List Nat} {sub : Nat → List Nat} {z : Int32} {c v : Nat} {K : Option Nat → Hp → Prop} (hlk : lk = 5 ∨ lk = 6) (b : Bin h lk n i L) (hk : ∀ a ∈ L, kd h a = 7) (hpv : PVs h 9 none L) (kt : kd h t = 51) (lt : ln h t = n) (hi : i < n) (hh : rf h (100 + i) t = L.head?) (kT : Trg 7 8 h r S sub) (hs : Srt h S) (pS : S.Perm L) (hO : ∀ a ∈ L, a ∈ O)
    (hz : z = spr (it h 23 c)) (kc : kd h c = 4 ∨ kd h c = 60) (kv : kd h v = 4 ∨ kd h v = 60) (hzi : ix n z = i) (hm0 : kd h m = 2 ∨ kd h m = 3) (mO : m ∉ O) (nd : O.Nodup) (hO0 : ∀ a ∈ O, kd h a ≠ 0) (pm : kd h m = 3 → it h 22 m = 0) (dl : kd h m = 3 → DL h m O) (hR : Rm h 1 11)
    (fin1 : ∀ a ∈ L, it h 0 a = z → K (some a) h)
    (fin : ∀ h' a L', InsN (PH L t i) h h' m O a z (some c) (some v) → kd h' a = 7 → L'.Perm (a :: L) → rf h' (100 + i) t = L'.head? → Bin h' lk n i L' → nc h' = nc h + 1 → ns h' = ns h + 11 → K none h') :
    ∀ (f p : Nat), p ∈ S → (sub p).length ≤ f → Dsc h S sub z p → wp_J8_putTreeVal_b27 K f h (some m) (some t) z (some c) (some v) none (some r) (some p)
  | 0, p, hp, hl, d => by
    have := List.length_pos_of_mem (kT.self hp)
    omega
  | f + 1, p, hp, hl, d => by
    have m0 : kd h m ≠ 0 := by omega
    have mL : m ∉ L := fun w => mO (hO m w)
    have new : ∀ g, (g = 7 ∧ z < it h 0 p) ∨ (g = 8 ∧ it h 0 p < z) → rf h g p = none → ∀ l10 : Int32, (g = 8 → 0 < l10) → (g = 7 → ¬ 0 < l10) → (∃ a130, some p = some a130 ∧ ((∃ a132, some m = some a132 ∧ (kd h a132 = 2 ∧ (wp_J1_newTreeNode h (some m) z (some c) (some v) (rf h 3 a130) (fun r135 h136 => Ex h h136 → (wp_J8_putTreeVal_b239 K h136 (some t) (some r) l10 (some p) (rf h 3 a130) r135))))) ∨ (∃ a139, some m = some a139 ∧ (kd h a139 = 3 ∧ (wp_J2_newTreeNode h (some m) z (some c) (some v) (rf h 3 a130) (fun r142 h143 => Ex h h143 → (wp_J8_putTreeVal_b239 K h143 (some t) (some r) l10 (some p) (rf h 3 a130) r142))))))) := by
      intro g hg hgn l10 w8 w7
      refine ⟨p, rfl, ?_⟩
      have go : ∀ x h1, NewN h h1 m O x 7 z (some c) (some v) (rf h 3 p) → (kd h m = 3 → DL h1 m (O ++ [x])) → wp_J8_putTreeVal_b239 K h1 (some t) (some r) l10 (some p) (rf h 3 p) (some x) := by
        intro x h1 N D
        have key := ptv_ins hlk b hk hpv kt lt hi hh kT hs pS hO hp d hg hgn hz kc kv hzi m0 mL N D fin
        unfold wp_J8_putTreeVal_b239
        refine ⟨fun q => ⟨p, rfl, ?_⟩, fun q => ⟨p, rfl, ?_⟩⟩
        · have : g = 8 := by
            rcases hg with w | w
            · exact absurd q (w7 w.1)
            · exact w.1
          rw [this] at key
          exact key
        · have : g = 7 := by
            rcases hg with w | w
            · exact w.1
            · exact absurd (w8 w.1) q
          rw [this] at key
          exact key
      rcases hm0 with q | q
      · left
        exact ⟨m, rfl, q, s_J1_newTreeNode hR (fun a h1 N _ => go a h1 N (fun w => by omega))⟩
      · right
        exact ⟨m, rfl, q, s_J2_newTreeNode hR m0 hO0 mO nd (pm q) (dl q) (fun a h1 N D _ => go a h1 N (fun _ => D))⟩
    unfold wp_J8_putTreeVal_b27
    refine ⟨p, rfl, fun q1 => ⟨fun q2 => ?_, fun q2 => ?_⟩, fun q1 => ?_⟩
    · have heq : it h 0 p = z := Int32.le_antisymm q1 q2
      obtain ⟨kb, hb, hkb, hsb⟩ := (b.1 p (pS.mem_iff.mp hp)).1.1
      have fin := fin1 p (pS.mem_iff.mp hp) heq
      exact key_test (P := fun h' => wp_J8_putTreeVal_b85 K h' (some p)) (Q := fun h' => wp_J8_putTreeVal_b88 K h' (some c) none (rf h 1 p)) hb (fun _ => fin) (fun w => absurd (spr_inj (hsb.symm.trans (heq.trans hz))) w)
    · have hlt : it h 0 p < z := Int32.not_le.mp q2
      unfold wp_J8_putTreeVal_b193
      refine ⟨fun _ => ⟨p, rfl, ?_⟩, fun q => absurd Int32_lt01 q⟩
      unfold wp_J8_putTreeVal_b215
      refine ⟨fun q => new 8 (Or.inr ⟨rfl, hlt⟩) q 1 (fun _ => Int32_lt01) (fun w => by omega), fun x hx => ?_⟩
      rw [hx]
      have := (kT.ch_sl hp (Or.inr hx)).2
      exact ptv_loop hlk b hk hpv kt lt hi hh kT hs pS hO hz kc kv hzi hm0 mO nd hO0 pm dl hR fin1 fin f x (kT.chS hp (Or.inr hx)).1 (by omega) (d.right kT hs hp hlt hx)
    · have hlt : z < it h 0 p := Int32.not_le.mp q1
      unfold wp_J8_putTreeVal_b193
      refine ⟨fun q => absurd q Int32_ltm1, fun _ => ⟨p, rfl, ?_⟩⟩
      unfold wp_J8_putTreeVal_b215
      refine ⟨fun q => new 7 (Or.inl ⟨rfl, hlt⟩) q (-1) (fun w => by omega) (fun _ => Int32_ltm1), fun x hx => ?_⟩
      rw [hx]
      have := (kT.ch_sl hp (Or.inl hx)).2
      exact ptv_loop hlk b hk hpv kt lt hi hh kT hs pS hO hz kc kv hzi hm0 mO nd hO0 pm dl hR fin1 fin f x (kT.chS hp (Or.inl hx)).1 (by omega) (d.left kT hs hp hlt hx)
theorem s_putTreeVal {h : Hp} {m t n i lk r a0 : Nat} {O L S : List Nat} {sub : Nat → List Nat} {z : Int32} {c v : Nat} {K : Option Nat → Hp → Prop} (hlk : lk = 5 ∨ lk = 6) (b : Bin h lk n i L) (hk : ∀ a ∈ L, kd h a = 7) (hpv : PVs h 9 none L) (kt : kd h t = 51) (lt : ln h t = n) (hi : i < n) (hh : rf h (100 + i) t = L.head?) (kT : Trg 7 8 h r S sub) (hs : Srt h S) (pS : S.Perm L) (hO : ∀ a ∈ L, a ∈ O)
    (hz : z = spr (it h 23 c)) (kc : kd h c = 4 ∨ kd h c = 60) (kv : kd h v = 4 ∨ kd h v = 60) (hzi : ix n z = i) (hm0 : kd h m = 2 ∨ kd h m = 3) (mO : m ∉ O) (nd : O.Nodup) (hO0 : ∀ a ∈ O, kd h a ≠ 0) (pm : kd h m = 3 → it h 22 m = 0) (dl : kd h m = 3 → DL h m O) (hR : Rm h 1 11) (ha0 : a0 ∈ L)
    (fin1 : ∀ a ∈ L, it h 0 a = z → K (some a) h)
    (fin : ∀ h' a L', InsN (PH L t i) h h' m O a z (some c) (some v) → kd h' a = 7 → L'.Perm (a :: L) → rf h' (100 + i) t = L'.head? → Bin h' lk n i L' → nc h' = nc h + 1 → ns h' = ns h + 11 → K none h') :
    wp_J8_putTreeVal h (some a0) (some m) (some t) z (some c) (some v) K := by
  have key : wp_J8_putTreeVal_b21 K h (some m) (some t) z (some c) (some v) none (some r) := by
    unfold wp_J8_putTreeVal_b21
    exact ⟨(sub r).length, ptv_loop hlk b hk hpv kt lt hi hh kT hs pS hO hz kc kv hzi hm0 mO nd hO0 pm dl hR fin1 fin _ r kT.2.1 (Nat.le_refl _) (Dsc.top kT z)⟩
  have aS : a0 ∈ S := pS.mem_iff.mpr ha0
  unfold wp_J8_putTreeVal
  refine ⟨a0, rfl, fun h6 => ?_, fun p hp => s_root kT aS (fun _ => key)⟩
  rw [kT.root_up aS h6]; exact key
