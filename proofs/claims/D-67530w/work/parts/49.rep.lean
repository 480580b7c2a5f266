/-! NODES REPLACED BY NEW ONES; untreeify -/
set_option maxRecDepth 100000
/-- since h0 the cells P of the map m (order O) have been replaced by new ones of the kind K: s tells by which -/
def Rep (h0 h : Hp) (m : Nat) (O : List Nat) (s : Nat → Nat) (P : List Nat) (K : Nat) : Prop :=
  (∀ x, x ∉ P → s x = x) ∧ (∀ x ∈ P, kd h0 (s x) = 0 ∧ kd h (s x) = K ∧ it h 0 (s x) = it h0 0 x ∧ rf h 1 (s x) = rf h0 1 x ∧ rf h 2 (s x) = rf h0 2 x) ∧ (P.map s).Nodup ∧
  (∀ b, kd h0 b ≠ 0 → kd h b = kd h0 b ∧ ln h b = ln h0 b) ∧ (nc h = nc h0 + P.length ∧ ns h = ns h0 + P.length * szK K 0) ∧
  (∀ f b, kd h0 b ≠ 0 → it h f b = it h0 f b ∧ ((b = m ∧ (f = 19 ∨ f = 20)) ∨ (b ∈ O ∧ (f = 4 ∨ f = 5)) ∨ rf h f b = rf h0 f b)) ∧ (kd h0 m = 3 → DL h m (O.map s))
theorem Rep.start {h0 : Hp} {m : Nat} {O : List Nat} {K : Nat} (dl : kd h0 m = 3 → DL h0 m O) : Rep h0 h0 m O id [] K :=
  ⟨fun _ _ => rfl, (fun x hx => by cases hx), List.nodup_nil, fun _ _ => ⟨rfl, rfl⟩, ⟨rfl, by simp⟩, fun _ _ _ => ⟨rfl, Or.inr (Or.inr rfl)⟩, fun q => by simpa using dl q⟩
theorem Rep.ex {h0 h : Hp} {m : Nat} {O : List Nat} {s : Nat → Nat} {P : List Nat} {K : Nat} (k : Rep h0 h m O s P K) : Ex h0 h := ⟨fun a ha => k.2.2.2.1 a ha, by rw [k.2.2.2.2.1.1]; omega, by rw [k.2.2.2.2.1.2]; omega⟩
theorem Rep.wr {h0 h : Hp} {m : Nat} {O : List Nat} {s : Nat → Nat} {P : List Nat} {K : Nat} (k : Rep h0 h m O s P K) {f b : Nat} (v : Option Nat) (hf : f = 3 ∨ f = 9) (hb : kd h0 b = 0) : Rep h0 (wR h f b v) m O s P K := by
  obtain ⟨k1, k2, k3, k4, k5, k6, k7⟩ := k
  refine ⟨k1, fun x hx => ?_, k3, k4, k5, fun g c hc => ⟨(k6 g c hc).1, ?_⟩, fun q => (k7 q).fra ?_ ?_ (fun a _ => ?_) (fun a _ => ?_)⟩
  · obtain ⟨g1, g2, g3, g4, g5⟩ := k2 x hx
    exact ⟨g1, g2, g3, by rw [rf_wR, if_neg (fun w => by omega)]; exact g4, by rw [rf_wR, if_neg (fun w => by omega)]; exact g5⟩
  · rw [rf_wR, if_neg (by rintro ⟨-, rfl⟩; exact hc hb)]
    exact (k6 g c hc).2
  · rw [rf_wR, if_neg (fun w => by omega)]
  · rw [rf_wR, if_neg (fun w => by omega)]
  · rw [rf_wR, if_neg (fun w => by omega)]
  · rw [rf_wR, if_neg (fun w => by omega)]
theorem map_swap {O : List Nat} {s : Nat → Nat} {p a : Nat} {X Y : List Nat} (e : O.map s = X ++ p :: Y) (nd : (X ++ p :: Y).Nodup) (hs : ∀ x ∈ O, s x = p ↔ x = p) : O.map (fun x => if x = p then a else s x) = X ++ a :: Y := by
  have h1 : O.map (fun x => if x = p then a else s x) = (O.map s).map (fun y => if y = p then a else y) := by
    rw [List.map_map]
    apply List.map_congr_left
    intro x hx
    show _ = if s x = p then a else s x
    by_cases q : x = p
    · rw [if_pos q, if_pos ((hs x hx).mpr q)]
    · rw [if_neg q, if_neg (fun z => q ((hs x hx).mp z))]
  have nd' := List.nodup_append.mp nd
  have idm : ∀ L : List Nat, p ∉ L → L.map (fun y => if y = p then a else y) = L := fun L hL => by
    conv => rhs; rw [← List.map_id L]
    apply List.map_congr_left
    intro x hx
    show (if x = p then a else x) = x
    exact if_neg (fun (q : x = p) => hL (q ▸ hx))
  rw [h1, e, List.map_append, List.map_cons, if_pos rfl, idm X (fun q => nd'.2.2 p q p List.mem_cons_self rfl), idm Y (List.nodup_cons.mp nd'.2.1).1]
theorem Rep.old {h0 h : Hp} {m : Nat} {O : List Nat} {s : Nat → Nat} {P : List Nat} {K : Nat} (k : Rep h0 h m O s P K) {b : Nat} (hb : kd h0 b ≠ 0) (hm : b ∈ O.map s) : b ∈ O ∧ b ∉ P := by
  obtain ⟨x, hx, e⟩ := List.mem_map.mp hm
  by_cases q : x ∈ P
  · have := (k.2.1 x q).1
    rw [e] at this
    exact absurd this hb
  · rw [k.1 x q] at e
    subst e
    exact ⟨hx, q⟩
theorem Rep.step {h0 h h' : Hp} {m : Nat} {O : List Nat} {s : Nat → Nat} {P : List Nat} {K : Nat} (k : Rep h0 h m O s P K) {p a : Nat} (hp : p ∉ P) (hp0 : kd h0 p ≠ 0) (hO0 : ∀ b ∈ O, kd h0 b ≠ 0) (hK : K ≠ 0) {nx : Option Nat}
    (hN : NewN h h' m (O.map s) a K (it h 0 p) (rf h 1 p) (rf h 2 p) nx) (hD : kd h0 m = 3 → DL h' m (O.map (fun x => if x = p then a else s x))) (hm0 : kd h0 m ≠ 0) (hpm : p ≠ m) : Rep h0 h' m O (fun x => if x = p then a else s x) (P ++ [p]) K := by
  obtain ⟨k1, k2, k3, k4, k5, k6, k7⟩ := id k
  obtain ⟨n1, n2, n3, n4, n5, ⟨g1, g2, g3, g4, g5⟩, n7⟩ := hN
  have ha0 : kd h0 a = 0 := by
    by_cases q : kd h0 a = 0
    · exact q
    · have := (k4 a q).1
      rw [n1] at this
      exact absurd this.symm q
  have olda : ∀ b, kd h0 b ≠ 0 → b ≠ a := fun b hb e => hb (e ▸ ha0)
  have sa : ∀ y ∈ P, s y ≠ a := fun y hy e => by
    have := (k2 y hy).2.1
    rw [e, n1] at this
    exact hK this.symm
  have fold : ∀ f, f = 1 ∨ f = 2 → rf h f p = rf h0 f p := fun f hf => by
    rcases (k6 f p hp0).2 with w | w | w
    · exact absurd w.1 hpm
    · omega
    · exact w
  have sP : ∀ y ∈ P, (if y = p then a else s y) = s y := fun y hy => if_neg (fun (e : y = p) => hp (e ▸ hy))
  have newf : ∀ f, f = 1 ∨ f = 2 → ∀ y ∈ P, rf h' f (s y) = rf h f (s y) := fun f hf y hy => by
    rcases (n7 f (s y) (sa y hy)).2 with w | w | w
    · have := (k2 y hy).1
      rw [w.1] at this
      exact absurd this hm0
    · omega
    · exact w
  refine ⟨fun y hy => ?_, fun y hy => ?_, ?_, fun b hb => ?_, ⟨?_, ?_⟩, fun f b hb => ?_, hD⟩
  · have : y ≠ p := fun e => hy (e ▸ List.mem_append_right _ List.mem_cons_self)
    show (if y = p then a else s y) = y
    rw [if_neg this]
    exact k1 y (fun q => hy (List.mem_append_left _ q))
  · rcases List.mem_append.mp hy with hy | hy
    · have e := sP y hy
      obtain ⟨q1, q2, q3, q4, q5⟩ := k2 y hy
      simp only [e]
      exact ⟨q1, by rw [(n3 _ (sa y hy)).1]; exact q2, by rw [(n7 0 _ (sa y hy)).1]; exact q3, by rw [newf 1 (Or.inl rfl) y hy]; exact q4, by rw [newf 2 (Or.inr rfl) y hy]; exact q5⟩
    · rw [List.mem_singleton.mp hy]
      simp only [if_true]
      exact ⟨ha0, n2, by rw [g1, (k6 0 p hp0).1], by rw [g2, fold 1 (Or.inl rfl)], by rw [g3, fold 2 (Or.inr rfl)]⟩
  · rw [List.map_append, List.map_congr_left (g := s) sP, List.nodup_append]
    refine ⟨k3, by simp, fun b hb c hc => ?_⟩
    obtain ⟨y, hy, e⟩ := List.mem_map.mp hb
    simp at hc
    rw [← e, hc]
    exact sa y hy
  · rw [(n3 b (olda b hb)).1, (n3 b (olda b hb)).2]
    exact k4 b hb
  · rw [n4, k5.1, List.length_append]; rfl
  · rw [n5, k5.2, List.length_append, Nat.add_mul]
    simp [Nat.add_assoc]
  · refine ⟨by rw [(n7 f b (olda b hb)).1]; exact (k6 f b hb).1, ?_⟩
    rcases (n7 f b (olda b hb)).2 with w | w | w
    · exact Or.inl w
    · exact Or.inr (Or.inl ⟨(k.old hb w.1).1, w.2⟩)
    · rw [w]; exact (k6 f b hb).2
theorem map_app1 {P : List Nat} {s : Nat → Nat} {p a : Nat} (hp : p ∉ P) : (P ++ [p]).map (fun x => if x = p then a else s x) = P.map s ++ [a] := by
  rw [List.map_append]
  congr 1
  · apply List.map_congr_left
    intro y hy
    show (if y = p then a else s y) = s y
    exact if_neg (fun (e : y = p) => hp (e ▸ hy))
  · simp
/-- one more node replaced, by a node of a list (T false) or of a tree (T true) -/
theorem rep_node {h0 h : Hp} {m : Nat} {O : List Nat} {s : Nat → Nat} {P : List Nat} {p : Nat} {K : Nat} {G : Option Nat → Hp → Prop} (k : Rep h0 h m O s P K) (hp : p ∉ P) (hpO : p ∈ O) (hO0 : ∀ b ∈ O, kd h0 b ≠ 0) (nd : O.Nodup) (hm0 : kd h0 m = 2 ∨ kd h0 m = 3) (mO : m ∉ O) (hkp : kd h0 m = 3 → kd h0 p = 6 ∨ kd h0 p = 7) (hK : K ≠ 0) (hPm : ∀ y ∈ P, y ∈ O)
    (hG : ∀ a h', NewN h h' m (O.map s) a K (it h 0 p) (rf h 1 p) (rf h 2 p) none → kd h0 a = 0 → Rep h0 h' m O (fun x => if x = p then a else s x) (P ++ [p]) K → G (some a) h') :
    (kd h m = 2 → (∀ a h', NewN h h' m (O.map s) a K (it h 0 p) (rf h 1 p) (rf h 2 p) none → G (some a) h')) ∧ (kd h m = 3 → ∃ X Y, O.map s = X ++ p :: Y ∧ (X ++ p :: Y).Nodup ∧ (∀ b ∈ X ++ p :: Y, kd h b ≠ 0) ∧ m ∉ X ++ p :: Y ∧ DL h m (X ++ p :: Y) ∧ ∀ a h', NewN h h' m (X ++ p :: Y) a K (it h 0 p) (rf h 1 p) (rf h 2 p) none → DL h' m (X ++ a :: Y) → G (some a) h') := by
  obtain ⟨k1, k2, k3, k4, k5, k6, k7⟩ := id k
  have hm00 : kd h0 m ≠ 0 := by omega
  have em := (k4 m hm00).1
  have hp0 := hO0 p hpO
  have hpm : p ≠ m := fun e => mO (e ▸ hpO)
  have a0 : ∀ a, kd h a = 0 → kd h0 a = 0 := fun a ha => by
    by_cases q : kd h0 a = 0
    · exact q
    · have := (k4 a q).1
      rw [ha] at this
      exact absurd this.symm q
  refine ⟨fun q a h' hN => ?_, fun q => ?_⟩
  · exact hG a h' hN (a0 a hN.1) (k.step hp hp0 hO0 hK hN (fun w => by omega) hm00 hpm)
  · have ndm : (O.map s).Nodup := by
      rw [List.Nodup, List.pairwise_map]
      refine List.Pairwise.imp_of_mem (fun {x y} hx hy hxy e => ?_) nd
      by_cases qx : x ∈ P
      · by_cases qy : y ∈ P
        · have : ∀ (L : List Nat), (L.map s).Nodup → x ∈ L → y ∈ L → s x = s y → x = y := by
            intro L
            induction L with
            | nil => intro _ hx; cases hx
            | cons c L ih =>
              intro hn hx hy e
              rw [List.map_cons, List.nodup_cons] at hn
              rcases List.mem_cons.mp hx with q1 | q1
              · rcases List.mem_cons.mp hy with q2 | q2
                · rw [q1, q2]
                · exact absurd (List.mem_map.mpr ⟨y, q2, by rw [← e, q1]⟩) hn.1
              · rcases List.mem_cons.mp hy with q2 | q2
                · exact absurd (List.mem_map.mpr ⟨x, q1, by rw [e, q2]⟩) hn.1
                · exact ih hn.2 q1 q2 e
          exact hxy (this P k3 qx qy e)
        · rw [k1 y qy] at e
          have := (k2 x qx).1
          rw [e] at this
          exact hO0 y hy this
      · rw [k1 x qx] at e
        by_cases qy : y ∈ P
        · have := (k2 y qy).1
          rw [← e] at this
          exact hO0 x hx this
        · rw [k1 y qy] at e
          exact hxy e
    have hpm' : p ∈ O.map s := List.mem_map.mpr ⟨p, hpO, k1 p hp⟩
    obtain ⟨X, Y, e⟩ := split_at hpm'
    rw [e] at ndm
    have q0 : kd h0 m = 3 := by rw [← em]; exact q
    have hs : ∀ x ∈ O, s x = p ↔ x = p := fun x hx => by
      constructor
      · intro w
        by_cases qx : x ∈ P
        · have := (k2 x qx).1
          rw [w] at this
          exact absurd this hp0
        · rw [k1 x qx] at w; exact w
      · intro w; rw [w]; exact k1 p hp
    have nz : ∀ b ∈ X ++ p :: Y, kd h b ≠ 0 := fun b hb => by
      rw [← e] at hb
      obtain ⟨x, hx, ex⟩ := List.mem_map.mp hb
      by_cases qx : x ∈ P
      · rw [← ex, (k2 x qx).2.1]; exact hK
      · rw [k1 x qx] at ex
        rw [← ex, (k4 x (hO0 x hx)).1]; exact hO0 x hx
    refine ⟨X, Y, e, ndm, nz, fun w => ?_, by rw [← e]; exact k7 q0, fun a h' hN hD => ?_⟩
    · rw [← e] at w
      exact mO (k.old hm00 w).1
    · rw [← e] at hN
      exact hG a h' hN (a0 a hN.1) (k.step hp hp0 hO0 hK hN (fun _ => by rw [map_swap e ndm hs]; exact hD) hm00 hpm)
theorem unt_loop {h0 : Hp} {m : Nat} {O L : List Nat} {KN : Nat} {K : Option Nat → Hp → Prop} (hm0 : kd h0 m = 2 ∨ kd h0 m = 3) (hKN : KN = if kd h0 m = 2 then 5 else 6) (hO0 : ∀ b ∈ O, kd h0 b ≠ 0) (nd : O.Nodup) (mO : m ∉ O) (hL : ∀ a ∈ L, a ∈ O) (ndL : L.Nodup) (hkL : ∀ a ∈ L, kd h0 a = 7) (hnx : NXs h0 3 L none) (hR : Rm h0 L.length (L.length * 6))
    (fin : ∀ h' s, Rep h0 h' m O s L KN → NXs h' 3 (L.map s) none → K (L.map s).head? h') :
    ∀ (R P : List Nat) (h : Hp) (s : Nat → Nat) (n : Nat), L = P ++ R → R.length + 1 ≤ n → Rep h0 h m O s P KN → NXs h 3 (P.map s) none → wp_J8_untreeify_b7 K n h (some m) (P.map s).head? (P.map s).getLast? R.head?
  | R, P, h, s, 0, _, hn, _, _ => by omega
  | [], P, h, s, n + 1, e, hn, k, hx => by
    unfold wp_J8_untreeify_b7
    rw [List.append_nil] at e
    subst e
    exact ⟨fun _ => fin h s k hx, (fun a q => by cases q)⟩
  | p :: R, P, h, s, n + 1, e, hn, k, hx => by
    have pL : p ∈ L := by rw [e]; exact List.mem_append_right _ List.mem_cons_self
    have pP : p ∉ P := by
      rw [e] at ndL
      exact fun q => (List.nodup_append.mp ndL).2.2 p q p List.mem_cons_self rfl
    have hm00 : kd h0 m ≠ 0 := by omega
    have em := (k.2.2.2.1 m hm00).1
    have hKN0 : KN ≠ 0 := by rw [hKN]; split <;> decide
    have p0 : kd h0 p ≠ 0 := by rw [hkL p pL]; decide
    have hpm : p ≠ m := fun q => mO (q ▸ hL p pL)
    have hlen : P.length + (R.length + 1) = L.length := by rw [e]; simp
    have hsz : szK KN 0 ≤ 6 := by rw [hKN]; split <;> decide
    have hrm : Rm h 1 (szK KN 0) := by
      unfold Rm at hR ⊢
      rw [k.2.2.2.2.1.1, k.2.2.2.2.1.2]
      refine ⟨by omega, ?_⟩
      have : P.length * szK KN 0 ≤ P.length * 6 := Nat.mul_le_mul_left _ hsz
      omega
    have p3 : ∀ h', Ex h h' → (rf h' 3 p = rf h 3 p) → rf h' 3 p = R.head? := fun h' _ q => by
      rw [q]
      have h1 : rf h0 3 p = R.head? := by
        rw [e] at hnx
        have := NXs_at hnx
        simpa using this
      rcases (k.2.2.2.2.2.1 3 p p0).2 with w | w | w
      · exact absurd w.1 hpm
      · omega
      · rw [w, h1]
    -- what comes behind the replacement
    have go : ∀ a h', NewN h h' m (O.map s) a KN (it h 0 p) (rf h 1 p) (rf h 2 p) none → kd h0 a = 0 → Rep h0 h' m O (fun x => if x = p then a else s x) (P ++ [p]) KN → wp_J8_untreeify_b19 (wp_J8_untreeify_b7 K n) K h' (some m) (P.map s).head? (P.map s).getLast? (some p) (some a) := by
      intro a h' hN ha0 k'
      have hpa : p ≠ a := fun q => p0 (q ▸ ha0)
      have hp3 : rf h' 3 p = rf h 3 p := by
        rcases (hN.2.2.2.2.2.2 3 p hpa).2 with w | w | w
        · exact absurd w.1 hpm
        · omega
        · exact w
      have nx' : ∀ b ∈ P.map s, rf h' 3 b = rf h 3 b := fun b hb => by
        obtain ⟨y, hy, ey⟩ := List.mem_map.mp hb
        obtain ⟨g1, g2, -⟩ := k.2.1 y hy
        have hba : b ≠ a := fun q => by rw [← ey] at q; rw [q, hN.1] at g2; exact hKN0 g2.symm
        rcases (hN.2.2.2.2.2.2 3 b hba).2 with w | w | w
        · rw [← ey] at w; rw [w.1] at g1; exact absurd g1 hm00
        · omega
        · exact w
      have hPa : (P ++ [p]).map (fun x => if x = p then a else s x) = P.map s ++ [a] := map_app1 pP
      have a3 : rf h' 3 a = none := hN.2.2.2.2.2.1.2.2.2.1
      unfold wp_J8_untreeify_b19
      refine ⟨fun q => ?_, fun l hl => ?_⟩
      · have hP : P.map s = [] := by
          cases hc : P.map s with
          | nil => rfl
          | cons x X => rw [hc] at q; simp [List.getLast?_cons] at q
        unfold wp_J8_untreeify_b37
        refine ⟨p, rfl, ?_⟩
        have h3 := p3 h' (by exact ⟨fun b hb => ⟨(hN.2.2.1 b (fun q => by rw [q, hN.1] at hb; exact hb rfl)).1, (hN.2.2.1 b (fun q => by rw [q, hN.1] at hb; exact hb rfl)).2⟩, by rw [hN.2.2.2.1]; omega, by rw [hN.2.2.2.2.1]; omega⟩) hp3
        have ih := unt_loop hm0 hKN hO0 nd mO hL ndL hkL hnx hR fin R (P ++ [p]) h' _ n (by rw [e]; simp) (by simp at hn; omega) k' (by rw [hPa, hP]; exact ⟨by rw [a3]; rfl, trivial⟩)
        rw [hPa, hP] at ih
        rw [h3]
        exact ih
      · rintro h2 rfl
        have lP : l ∈ P.map s := mem_last hl
        obtain ⟨y, hy, ey⟩ := List.mem_map.mp lP
        have l0 : kd h0 l = 0 := by rw [← ey]; exact (k.2.1 y hy).1
        have lp : l ≠ p := fun q => p0 (q ▸ l0)
        have la : l ≠ a := fun q => by
          have := (k.2.1 y hy).2.1
          rw [ey, q, hN.1] at this
          exact hKN0 this.symm
        unfold wp_J8_untreeify_b37
        refine ⟨p, rfl, ?_⟩
        have h3 : rf (wR h' 3 l (some a)) 3 p = R.head? := p3 _ (by exact ⟨fun b hb => ⟨(hN.2.2.1 b (fun q => by rw [q, hN.1] at hb; exact hb rfl)).1, (hN.2.2.1 b (fun q => by rw [q, hN.1] at hb; exact hb rfl)).2⟩, by rw [nc_wR, hN.2.2.2.1]; omega, by rw [ns_wR, hN.2.2.2.2.1]; omega⟩) (by rw [rf_wR, if_neg (fun w => lp w.2.symm)]; exact hp3)
        have ih := unt_loop hm0 hKN hO0 nd mO hL ndL hkL hnx hR fin R (P ++ [p]) (wR h' 3 l (some a)) _ n (by rw [e]; simp) (by simp at hn; omega) (k'.wr (some a) (Or.inl rfl) l0) (by
          rw [hPa, NXs_app]
          refine ⟨NXs_re hx k.2.2.1 (fun l' hl' => ?_) (fun b hb q => ?_), ⟨?_, trivial⟩⟩
          · rw [hl] at hl'; cases hl'
            rw [rf_wR, if_pos ⟨rfl, rfl⟩]; rfl
          · rw [rf_wR, if_neg (by rintro ⟨-, rfl⟩; exact q hl)]; exact nx' b hb
          · rw [rf_wR, if_neg (fun w => la w.2.symm), a3]; rfl)
        rw [hPa] at ih
        have e1 : (P.map s ++ [a]).head? = (P.map s).head? := by
          cases hc : P.map s with
          | nil => rw [hc] at lP; cases lP
          | cons c C => rfl
        have e2 : (P.map s ++ [a]).getLast? = some a := by simp
        rw [e1, e2] at ih
        rw [h3]
        exact ih
    unfold wp_J8_untreeify_b7
    refine ⟨(fun q => by cases q), fun a q => ?_⟩
    cases q
    have hPO : ∀ y ∈ P, y ∈ O := fun y hy => hL y (by rw [e]; exact List.mem_append_left _ hy)
    obtain ⟨r2, r3⟩ := rep_node (G := fun o h' => wp_J8_untreeify_b19 (wp_J8_untreeify_b7 K n) K h' (some m) (P.map s).head? (P.map s).getLast? (some p) o) k pP (hL p pL) hO0 nd hm0 mO (fun _ => Or.inr (hkL p pL)) hKN0 hPO go
    rcases hm0 with q | q
    · left
      have em2 : kd h m = 2 := by rw [em]; exact q
      have hK5 : KN = 5 := by rw [hKN, if_pos q]
      subst hK5
      refine ⟨m, rfl, em2, s_J1_replacementNode (O := O.map s) hrm (by rw [(k.2.2.2.1 p p0).1]; exact p0) (fun a h' hN _ => r2 em2 a h' hN)⟩
    · right
      have em3 : kd h m = 3 := by rw [em]; exact q
      have hK6 : KN = 6 := by rw [hKN, if_neg (by rw [q]; decide)]
      subst hK6
      obtain ⟨X, Y, eX, ndm, nz, mX, dlX, r3⟩ := r3 em3
      refine ⟨m, rfl, em3, s_J2_replacementNode hrm (by rw [em]; exact hm00) (by rw [(k.2.2.2.1 p p0).1]; exact Or.inr (hkL p pL)) nz mX ndm dlX (fun a h' hN hD _ => r3 a h' hN hD)⟩
theorem s_untreeify {h0 : Hp} {m : Nat} {O L : List Nat} {KN : Nat} {K : Option Nat → Hp → Prop} (hm0 : kd h0 m = 2 ∨ kd h0 m = 3) (hKN : KN = if kd h0 m = 2 then 5 else 6) (hO0 : ∀ b ∈ O, kd h0 b ≠ 0) (nd : O.Nodup) (mO : m ∉ O) (dl : kd h0 m = 3 → DL h0 m O) (hL : ∀ a ∈ L, a ∈ O) (ndL : L.Nodup) (hkL : ∀ a ∈ L, kd h0 a = 7) (hnx : NXs h0 3 L none) (hR : Rm h0 L.length (L.length * 6))
    (fin : ∀ h' s, Rep h0 h' m O s L KN → NXs h' 3 (L.map s) none → K (L.map s).head? h') : wp_J8_untreeify h0 L.head? (some m) K := by
  unfold wp_J8_untreeify
  exact ⟨L.length + 1, unt_loop hm0 hKN hO0 nd mO hL ndL hkL hnx hR fin L [] h0 id _ rfl (Nat.le_refl _) (Rep.start dl) trivial⟩
