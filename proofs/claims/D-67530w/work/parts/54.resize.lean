/-! RESIZE -/
set_option maxRecDepth 100000
theorem fp_cap0 : ∀ e : Fin 12, vf_n32 (FP.fmul (FP.i2f (nI (2 ^ e.val))) ((1061158912 : Int32).toUInt32)) ∧ ¬ 0 ≤ (Op.cmpValue (FP.fcmp (FP.fmul (FP.i2f (nI (2 ^ e.val))) ((1061158912 : Int32).toUInt32)) (1317011456 : UInt32)) .g) ∧ FP.f2i (FP.fmul (FP.i2f (nI (2 ^ e.val))) ((1061158912 : Int32).toUInt32)) = nI (3 * 2 ^ e.val / 4) := by unfold vf_n32; decide +kernel
theorem fp_cap {e : Nat} (he : e ≤ 11) : vf_n32 (FP.fmul (FP.i2f (nI (2 ^ e))) ((1061158912 : Int32).toUInt32)) ∧ ¬ 0 ≤ (Op.cmpValue (FP.fcmp (FP.fmul (FP.i2f (nI (2 ^ e))) ((1061158912 : Int32).toUInt32)) (1317011456 : UInt32)) .g) ∧ FP.f2i (FP.fmul (FP.i2f (nI (2 ^ e))) ((1061158912 : Int32).toUInt32)) = nI (3 * 2 ^ e / 4) := fp_cap0 ⟨e, by omega⟩
theorem rs_dec0 : ∀ e : Fin 11, ¬ nI (2 ^ e.val) ≤ 0 ∧ nI (2 ^ e.val) < (1073741824 : Int32) ∧ ¬ (1073741824 : Int32) ≤ (nI (2 ^ e.val)) <<< ((1 : Int32) &&& 31) ∧ (nI (2 ^ e.val)) <<< ((1 : Int32) &&& 31) = nI (2 ^ e.val * 2) ∧ (¬ nI (2 ^ e.val) < 16 → nI (3 * 2 ^ e.val / 4) <<< ((1 : Int32) &&& 31) = nI (3 * (2 ^ e.val * 2) / 4) ∧ ¬ nI (3 * (2 ^ e.val * 2) / 4) = 0) := by decide +kernel
theorem rs_dec1 : ∀ e : Fin 12, ¬ nI (2 ^ e.val) ≤ 0 ∧ ¬ (1073741824 : Int32) ≤ nI (2 ^ e.val) := by decide +kernel
def lkOf (h : Hp) (m : Nat) : Nat := if kd h m = 2 then 5 else 6
/-- the threshold -/
def TH (h : Hp) (m n : Nat) : Prop := (n = 0 ∧ (it h 17 m = 0 ∨ ∃ e, e ≤ 11 ∧ it h 17 m = nI (2 ^ e))) ∨ (0 < n ∧ it h 17 m = nI (3 * n / 4))
/-- a map's body: its table of n places, the bins bn, the nodes O in their order -/
def MB (h : Hp) (m n : Nat) (bn : Nat → List Nat) (O : List Nat) : Prop :=
  (kd h m = 2 ∨ kd h m = 3) ∧ O.Nodup ∧ O.Perm (nodes n bn) ∧ (∀ a ∈ O, 5 ≤ kd h a ∧ kd h a ≤ 7) ∧
  ((n = 0 ∧ rf h 13 m = none) ∨ ∃ e t, e ≤ 11 ∧ n = 2 ^ e ∧ rf h 13 m = some t ∧ Tab h (lkOf h m) t n bn) ∧
  (kd h m = 3 → DL h m O) ∧ it h 18 m = 1061158912 ∧ TH h m n
theorem MB.mO {h : Hp} {m n : Nat} {bn : Nat → List Nat} {O : List Nat} (k : MB h m n bn O) : m ∉ O := fun q => by
  have := k.2.2.2.1 m q
  have := k.1
  omega
theorem MB.ok {h : Hp} {m n : Nat} {bn : Nat → List Nat} {O : List Nat} (k : MB h m n bn O) : ∀ a ∈ O, NodeOK h a := fun a ha => by
  obtain ⟨k1, k2, k3, k4, k5, k6, k7, k8⟩ := k
  obtain ⟨i, hi, ha⟩ := mem_nodes.mp (k3.mem_iff.mp ha)
  rcases k5 with q | ⟨e, t, q1, q2, q3, q4⟩
  · omega
  · exact ((q4.2.2 i hi).2.1 a ha).1
def PZ (h : Hp) (m : Nat) (O : List Nat) (f b : Nat) : Prop := (b = m ∧ (f = 13 ∨ f = 17)) ∨ (b ∈ O ∧ (f = 3 ∨ (6 ≤ f ∧ f ≤ 10))) ∨ (rf h 13 m = some b ∧ 100 ≤ f)
theorem PZ.fl {h : Hp} {m : Nat} {O : List Nat} {f b : Nat} (q : PZ h m O f b) : f = 13 ∨ f = 17 ∨ f = 3 ∨ (6 ≤ f ∧ f ≤ 10) ∨ 100 ≤ f := by
  rcases q with q | q | q <;> omega
theorem rs_85 {h : Hp} {m e : Nat} {l1 : Option Nat} {l2 l5 : Int32} {K : Option Nat → Hp → Prop} (he : e ≤ 11) (h18 : it h 18 m = 1061158912) (h5 : l5 = 0 ∨ l5 = nI (3 * 2 ^ e / 4)) (k : wp_J1_resize_b125 K h (some m) l1 l2 (nI (2 ^ e)) (nI (3 * 2 ^ e / 4))) : wp_J1_resize_b85 K h (some m) l1 l2 (nI (2 ^ e)) l5 := by
  unfold wp_J1_resize_b85
  refine ⟨fun q => ?_, fun _ => ⟨m, rfl, ?_⟩⟩
  · rcases h5 with w | w
    · exact absurd w q
    · rw [w]; exact k
  · rw [h18]
    obtain ⟨f1, f2, f3⟩ := fp_cap he
    have d := rs_dec1 ⟨e, by omega⟩
    refine ⟨f1, fun q => absurd q d.2, fun _ => ⟨fun q => absurd q f2, fun _ => ?_⟩⟩
    unfold wp_J1_resize_b123
    rw [f3]
    exact k
/-- a new table stands in the map -/
def alH (h : Hp) (m : Nat) (v : Int32) (t N : Nat) : Hp := wR (nw (wI h 17 m v) t 51 N) 13 m (some t)
theorem alH_facts {h : Hp} {m : Nat} {v : Int32} {t N : Nat} (ht : kd h t = 0) (hm : kd h m ≠ 0) : (∀ f b, b ≠ t → ¬ (b = m ∧ f = 13) → rf (alH h m v t N) f b = rf h f b) ∧ (∀ f b, b ≠ t → ¬ (b = m ∧ f = 17) → it (alH h m v t N) f b = it h f b) ∧ (∀ b, b ≠ t → kd (alH h m v t N) b = kd h b ∧ ln (alH h m v t N) b = ln h b) ∧ kd (alH h m v t N) t = 51 ∧ ln (alH h m v t N) t = N ∧ (∀ f, rf (alH h m v t N) f t = none) ∧ rf (alH h m v t N) 13 m = some t ∧ it (alH h m v t N) 17 m = v ∧ nc (alH h m v t N) = nc h + 1 ∧ ns (alH h m v t N) = ns h + N := by
  have mt : m ≠ t := fun e => hm (e ▸ ht)
  unfold alH
  refine ⟨fun f b hb hf => ?_, fun f b hb hf => ?_, fun b hb => ⟨?_, ?_⟩, ?_, ?_, fun f => ?_, ?_, ?_, rfl, ?_⟩
  · rw [rf_wR, if_neg (fun (w : f = 13 ∧ b = m) => hf ⟨w.2, w.1⟩), rf_nw, if_neg hb, rf_wI]
  · rw [it_wR, it_nw, if_neg hb, it_wI, if_neg (fun (w : f = 17 ∧ b = m) => hf ⟨w.2, w.1⟩)]
  · rw [kd_wR, kd_nw, if_neg hb, kd_wI]
  · rw [ln_wR, ln_nw, if_neg hb, ln_wI]
  · rw [kd_wR, kd_nw, if_pos rfl]
  · rw [ln_wR, ln_nw, if_pos rfl]
  · rw [rf_wR, if_neg (fun (w : f = 13 ∧ t = m) => mt w.2.symm), rf_nw, if_pos rfl]
  · rw [rf_wR, if_pos ⟨rfl, rfl⟩]
  · rw [it_wR, it_nw, if_neg mt, it_wI, if_pos ⟨rfl, rfl⟩]
  · rfl
theorem alH_evo {h : Hp} {m : Nat} {v : Int32} {t N : Nat} {O : List Nat} (ht : kd h t = 0) (hm : kd h m ≠ 0) (nd : O.Nodup) (hO : ∀ x ∈ O, kd h x ≠ 0) (mO : m ∉ O) : Evo (PZ h m O) h (alH h m v t N) m O id := by
  obtain ⟨f1, f2, f3, f4, f5, f6, f7, f8, f9, f10⟩ := alH_facts (v := v) (N := N) ht hm
  have ne : ∀ b, kd h b ≠ 0 → b ≠ t := fun b hb e => hb (e ▸ ht)
  have xm : ∀ x ∈ O, x ≠ m := fun x hx e => mO (e ▸ hx)
  refine ⟨⟨fun b hb => f3 b (ne b hb), by rw [f9]; omega, by rw [f10]; omega⟩, fun x hx => ⟨Or.inl rfl, ?_, ?_, ?_, ?_⟩, by simpa using nd, fun f b hb => ?_, fun q d => ?_⟩
  · show kd _ x ≠ 0
    rw [(f3 x (ne x (hO x hx))).1]; exact hO x hx
  · exact f2 0 x (ne x (hO x hx)) (fun w => xm x hx w.1)
  · exact f1 1 x (ne x (hO x hx)) (fun w => xm x hx w.1)
  · exact f1 2 x (ne x (hO x hx)) (fun w => xm x hx w.1)
  · by_cases q : b = m ∧ (f = 13 ∨ f = 17)
    · exact Or.inl (Or.inr (Or.inr (Or.inl q)))
    · exact Or.inr ⟨f1 f b (ne b hb) (fun w => q ⟨w.1, Or.inl w.2⟩), f2 f b (ne b hb) (fun w => q ⟨w.1, Or.inr w.2⟩)⟩
  · have := d.fra (f1 19 m (ne m hm) (by omega)) (f1 20 m (ne m hm) (by omega)) (fun a ha => f1 5 a (ne a (hO a ha)) (fun w => xm a ha w.1)) (fun a ha => f1 4 a (ne a (hO a ha)) (fun w => xm a ha w.1))
    simpa using this
theorem s_resize {h : Hp} {m n : Nat} {bn : Nat → List Nat} {O : List Nat} {K : Option Nat → Hp → Prop} (k : MB h m n bn O) (hn : n ≤ 1024) (hR : Rm h (1 + O.length) (2048 + O.length * 6))
    (fin : ∀ h' s n' bn' t, MB h' m n' bn' (O.map s) → Evo (PZ h m O) h h' m O s → rf h' 13 m = some t → kd h t = 0 → 0 < n' → n' ≤ 2048 → (0 < n → n' = 2 * n) → (n = 0 → it h 17 m = 0 → n' = 16) → (n = 0 → ∀ c, c ≤ 2048 → it h 17 m = nI c → 0 < c → n' = c) → nc h' ≤ nc h + (1 + O.length) → ns h' ≤ ns h + (2048 + O.length * 6) → K (some t) h') :
    wp_J1_resize h (some m) K := by
  obtain ⟨k1, k2, k3, k4, k5, k6, k7, k8⟩ := id k
  have m0 : kd h m ≠ 0 := by rcases k1 with w | w <;> rw [w] <;> decide
  have hO0 : ∀ x ∈ O, kd h x ≠ 0 := fun x hx => by have := k4 x hx; omega
  have mO := k.mO
  unfold wp_J1_resize
  refine ⟨m, rfl, fun q => ?_, fun t0 q _ => ?_⟩
  · have hn0 : n = 0 := by
      rcases k5 with w | ⟨e, t, w1, w2, w3, w4⟩
      · exact w.1
      · rw [q] at w3; cases w3
    subst hn0
    have hO : O = [] := by
      have := k3.length_eq
      exact List.eq_nil_of_length_eq_zero this
    subst hO
    have main : ∀ e, e ≤ 11 → (it h 17 m = 0 → 2 ^ e = 16) → (∀ c, c ≤ 2048 → it h 17 m = nI c → 0 < c → 2 ^ e = c) → wp_J1_resize_b125 K h (some m) (rf h 13 m) 0 (nI (2 ^ e)) (nI (3 * 2 ^ e / 4)) := fun e he z1 z2 => by
      have p11 : 2 ^ e ≤ 2 ^ 11 := Nat.pow_le_pow_right (by decide) he
      have p0 : 0 < 2 ^ e := Nat.pow_pos (by decide)
      unfold wp_J1_resize_b125
      refine ⟨m, rfl, ?_⟩
      rintro h1 rfl
      refine ⟨2 ^ e, rfl, by omega, ?_, fun t ht => ?_⟩
      · unfold Rm at hR ⊢
        show nc h + _ ≤ _ ∧ ns h + _ ≤ _
        simp at hR
        omega
      · have ht : kd h t = 0 := ht
        rintro h2 rfl h3 rfl
        refine ⟨fun _ => ?_, (fun a w => by rw [q] at w; cases w)⟩
        unfold wp_J1_resize_b353
        obtain ⟨f1, f2, f3, f4, f5, f6, f7, f8, f9, f10⟩ := alH_facts (h := h) (m := m) (v := nI (3 * 2 ^ e / 4)) (t := t) (N := 2 ^ e) ht m0
        have mt : m ≠ t := fun e => m0 (e ▸ ht)
        refine fin (alH h m (nI (3 * 2 ^ e / 4)) t (2 ^ e)) id (2 ^ e) (fun _ => []) t ⟨by rw [(f3 m mt).1]; exact k1, List.nodup_nil, by rw [nodes_nil]; simp, (fun a ha => by simp at ha), Or.inr ⟨e, t, he, rfl, f7, f4, f5, fun i hi => ⟨f6 _, Bin.nil _ _ _ _⟩⟩, fun w => ?_, by rw [f2 18 m mt (by omega)]; exact k7, Or.inr ⟨p0, f8⟩⟩ (alH_evo ht m0 k2 hO0 mO) f7 ht p0 p11 (by omega) (fun _ => z1) (fun _ => z2) (by rw [f9]; simp) (by rw [f10]; simp; omega)
        rw [(f3 m mt).1] at w
        have := (alH_evo (v := nI (3 * 2 ^ e / 4)) (N := 2 ^ e) ht m0 k2 hO0 mO).2.2.2.2 w (k6 w)
        exact this
    unfold wp_J1_resize_b15
    refine ⟨m, rfl, fun _ => ⟨fun w => ?_, fun w => ?_⟩, (fun w => absurd (Int32.le_refl 0) w)⟩
    · have z : it h 17 m = 0 := by
        rcases k8 with ⟨-, z | ⟨e, he, z⟩⟩ | z
        · exact z
        · have := (rs_dec1 ⟨e, by omega⟩).1
          rw [z] at w
          exact absurd w this
        · omega
      exact rs_85 (e := 4) (by omega) k7 (Or.inr (by decide)) (main 4 (by omega) (fun _ => by decide) (fun c h1 h2 h3 => by
        rw [z] at h2
        have := nI_inj (a := 0) (b := c) (by omega) (by omega) h2
        omega))
    · rcases k8 with ⟨-, z | ⟨e, he, z⟩⟩ | z
      · rw [z] at w; exact absurd (Int32.le_refl 0) w
      · have p11 : 2 ^ e ≤ 2 ^ 11 := Nat.pow_le_pow_right (by decide) he
        rw [z]
        exact rs_85 (e := e) he k7 (Or.inl rfl) (main e he (fun z0 => by
          rw [z] at z0
          have := nI_inj (a := 2 ^ e) (b := 0) (by omega) (by omega) z0
          have : 0 < 2 ^ e := Nat.pow_pos (by decide)
          omega) (fun c h1 h2 h3 => by
          rw [z] at h2
          exact nI_inj (by omega) (by omega) h2))
      · omega
  · rcases k5 with w | ⟨e, t1, w1, w2, w3, w4⟩
    · rw [w.2] at q; cases q
    · rw [q] at w3
      cases w3
      subst w2
      have he : e ≤ 10 := by
        rcases Nat.lt_or_ge 10 e with w | w
        · have := Nat.pow_le_pow_right (n := 2) (by decide) w
          omega
        · exact w
      obtain ⟨kt0, lt0, tb⟩ := w4
      have p10 : 2 ^ e ≤ 2 ^ 10 := Nat.pow_le_pow_right (by decide) he
      have p0 : 0 < 2 ^ e := Nat.pow_pos (by decide)
      have lk0 : lkOf h m = 5 ∨ lkOf h m = 6 := by unfold lkOf; split <;> omega
      have hth : it h 17 m = nI (3 * 2 ^ e / 4) := by
        rcases k8 with w | w
        · omega
        · exact w.2
      have t0m : t0 ≠ m := fun w => by rw [w] at kt0; omega
      have e2 : 2 ^ (e + 1) = 2 ^ e * 2 := Nat.pow_succ 2 e
      have main : wp_J1_resize_b125 K h (some m) (some t0) (nI (2 ^ e)) (nI (2 ^ (e + 1))) (nI (3 * 2 ^ (e + 1) / 4)) := by
        rw [e2]
        unfold wp_J1_resize_b125
        refine ⟨m, rfl, ?_⟩
        rintro h1 rfl
        refine ⟨2 ^ e * 2, rfl, by omega, ?_, fun t ht => ?_⟩
        · unfold Rm at hR ⊢
          show nc h + _ ≤ _ ∧ ns h + _ ≤ _
          omega
        · have ht : kd h t = 0 := ht
          rintro h2 rfl h3 rfl
          obtain ⟨f1, f2, f3, f4, f5, f6, f7, f8, f9, f10⟩ := alH_facts (h := h) (m := m) (v := nI (3 * (2 ^ e * 2) / 4)) (t := t) (N := 2 ^ e * 2) ht m0
          have E1 := alH_evo (v := nI (3 * (2 ^ e * 2) / 4)) (N := 2 ^ e * 2) ht m0 k2 hO0 mO
          have mt : m ≠ t := fun e => m0 (e ▸ ht)
          have tt : t ≠ t0 := fun w => by rw [w] at ht; omega
          refine ⟨(fun w => by cases w), fun a _ => ⟨2 ^ e + 1, ?_⟩⟩
          show wp_J1_resize_b151 K (2 ^ e + 1) (alH h m (nI (3 * (2 ^ e * 2) / 4)) t (2 ^ e * 2)) _ _ _ _ _ _
          generalize alH h m (nI (3 * (2 ^ e * 2) / 4)) t (2 ^ e * 2) = h1 at f1 f2 f3 f4 f5 f6 f7 f8 f9 f10 E1
          have xO : ∀ x ∈ O, x ≠ t ∧ x ≠ m := fun x hx => ⟨fun w => hO0 x hx (w ▸ ht), fun w => mO (w ▸ hx)⟩
          have I1 : IntS h h1 := E1.int (fun x q => by have := q.fl; omega)
          have inO : ∀ i, i < 2 ^ e → ∀ x ∈ bn i, x ∈ O := fun i hi x hx => k3.mem_iff.mpr (mem_nodes.mpr ⟨i, hi, hx⟩)
          have k6h : kd h1 m = 3 → DL h1 m O := fun w => by
            have := E1.dl m0 k6 w
            simpa using this
          refine rs_main (lk := lkOf h m) (bn := bn) (by omega) (by rw [(f3 m mt).1]; exact k1) (by rw [(f3 m mt).1]; rfl) (fun b hb => by rw [(f3 b (xO b hb).1).1]; exact hO0 b hb) k2 mO k6h k3 f4 f5 (by rw [(f3 t0 (Ne.symm tt)).1]; exact kt0) (by rw [(f3 t0 (Ne.symm tt)).2]; exact lt0) tt (by unfold Rm at hR ⊢; rw [f9, f10]; omega) (fun h' s bN E2 T2 p2 c1 c2 => ?_) _ 0 h1 id (fun _ => []) (by omega) (by omega) ⟨Evo.start _ h1 m k2 (fun b hb => by rw [(f3 b (xO b hb).1).1]; exact hO0 b hb), fun i _ hi => ⟨?_, ?_, fun _ _ => rfl⟩, (fun i hi => by omega), fun i _ hi => ⟨f6 _, f6 _⟩, by simp [nodes], by simp [nodes]⟩
          · have E3 := E1.comp (s2 := s) (h2 := h') (Q := PL O t0 t) (by simpa using E2) (fun f x hx z => by
              rcases z with z | z | z
              · exact Or.inr (Or.inl z)
              · exact Or.inr (Or.inr ⟨by rw [q, z.1], z.2⟩)
              · rw [z.1] at hx; exact absurd ht hx) m0
            have g : ∀ f, f = 13 ∨ f = 17 ∨ f = 18 → rf h' f m = rf h1 f m ∧ it h' f m = it h1 f m := fun f hf => E2.keep (by rw [(f3 m mt).1]; exact m0) (by omega) (fun z => by have := z.fl; omega)
            have km : kd h' m = kd h m := (E3.1.1 m m0).1
            refine fin h' s (2 ^ e * 2) bN t ⟨by rw [km]; exact k1, E2.2.2.1, p2, fun a ha => ?_, Or.inr ⟨e + 1, t, by omega, e2.symm, by rw [(g 13 (by omega)).1]; exact f7, by unfold lkOf; rw [km]; exact T2⟩, fun w => ?_, by rw [(g 18 (by omega)).2, f2 18 m mt (by omega)]; exact k7, Or.inr ⟨by omega, by rw [(g 17 (by omega)).2]; exact f8⟩⟩ E3 (by rw [(g 13 (by omega)).1]; exact f7) ht (by omega) (by omega) (fun _ => by omega) (fun w => by omega) (fun w => by omega) (by rw [f9] at c1; omega) (by rw [f10] at c2; omega)
            · obtain ⟨i, hi, ha⟩ := mem_nodes.mp (p2.mem_iff.mp ha)
              exact (T2.2.2 i hi).2.kd lk0 ha
            · exact E3.dl m0 k6 w
          · rw [f1 _ t0 (Ne.symm tt) (fun w => t0m w.1)]
            exact (tb i hi).1
          · refine (tb i hi).2.fra I1 (fun a ha => (f3 a (xO a (inO i hi a ha)).1).1) (fun a ha => f2 0 a (xO a (inO i hi a ha)).1 (by omega)) (fun a ha f hf => f1 f a (xO a (inO i hi a ha)).1 (by omega))
      obtain ⟨d1, d2, d3, d4, d5⟩ := rs_dec0 ⟨e, by omega⟩
      rw [q, lt0]
      unfold wp_J1_resize_b15
      refine ⟨m, rfl, fun w => absurd w d1, fun _ => ⟨fun _ => ⟨fun w => absurd w d3, fun _ => ⟨fun w => ?_, fun w => ?_⟩⟩, fun w => absurd d2 w⟩⟩
      · rw [d4, ← e2]
        exact rs_85 (by omega) k7 (Or.inl rfl) main
      · rw [d4, hth, (d5 w).1, ← e2]
        exact rs_85 (by omega) k7 (Or.inr rfl) main
