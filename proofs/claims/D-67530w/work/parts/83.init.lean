/-! TABLESIZEFOR; THE CONSTRUCTOR -/
set_option maxRecDepth 100000
def shr_ (a k : Int32) : Int32 := (a.toUInt32 >>> (k.toUInt32 &&& Int32.toUInt32 31)).toInt32
def nl73 (a b : Int32) : Int32 := b - shr_ a 1
def nl61 (a b : Int32) : Int32 := if a < 4 then nl73 a b else nl73 (shr_ a 2) (b + (-2))
def nl48 (a b : Int32) : Int32 := if a < 16 then nl61 a b else nl61 (shr_ a 4) (b + (-4))
def nl33 (a b : Int32) : Int32 := if a < 256 then nl48 a b else nl48 (shr_ a 8) (b + (-8))
def nlz_ (a : Int32) : Int32 := if 0 < a then (if a < 65536 then nl33 a 31 else nl33 (shr_ a 16) (31 + (-16))) else if a = 0 then 32 else 0
def tsf_ (a : Int32) : Int32 := if 0 ≤ shr_ (-1) (nlz_ (a - 1)) then (if shr_ (-1) (nlz_ (a - 1)) < 1073741824 then shr_ (-1) (nlz_ (a - 1)) + 1 else 1073741824) else 1
theorem s_nl61 {h : Hp} {a b : Int32} {K : Int32 → Hp → Prop} (k : K (nl61 a b) h) : wp_J5_numberOfLeadingZeros_b61 K h a b := by
  unfold wp_J5_numberOfLeadingZeros_b61 wp_J5_numberOfLeadingZeros_b73
  unfold nl61 nl73 shr_ at k
  refine ⟨fun w => ?_, fun w => ?_⟩
  · rw [if_pos w] at k; exact k
  · rw [if_neg w] at k; exact k
theorem s_nl48 {h : Hp} {a b : Int32} {K : Int32 → Hp → Prop} (k : K (nl48 a b) h) : wp_J5_numberOfLeadingZeros_b48 K h a b := by
  unfold wp_J5_numberOfLeadingZeros_b48
  unfold nl48 at k
  refine ⟨fun w => s_nl61 ?_, fun w => s_nl61 ?_⟩
  · rw [if_pos w] at k; exact k
  · rw [if_neg w] at k; exact k
theorem s_nl33 {h : Hp} {a b : Int32} {K : Int32 → Hp → Prop} (k : K (nl33 a b) h) : wp_J5_numberOfLeadingZeros_b33 K h a b := by
  unfold wp_J5_numberOfLeadingZeros_b33
  unfold nl33 at k
  refine ⟨fun w => s_nl48 ?_, fun w => s_nl48 ?_⟩
  · rw [if_pos w] at k; exact k
  · rw [if_neg w] at k; exact k
theorem s_nlz {h : Hp} {a : Int32} {K : Int32 → Hp → Prop} (k : K (nlz_ a) h) : wp_J5_numberOfLeadingZeros h a K := by
  unfold wp_J5_numberOfLeadingZeros wp_J5_numberOfLeadingZeros_b14
  unfold nlz_ at k
  refine ⟨fun w => ⟨fun z => s_nl33 ?_, fun z => s_nl33 ?_⟩, fun w => ⟨fun z => ?_, fun z => ?_⟩⟩
  · rw [if_pos w, if_pos z] at k; exact k
  · rw [if_pos w, if_neg z] at k; exact k
  · rw [if_neg w, if_neg z] at k; exact k
  · rw [if_neg w, if_pos z] at k; exact k
theorem s_tsf {h : Hp} {a : Int32} {K : Int32 → Hp → Prop} (k : K (tsf_ a) h) : wp_J1_tableSizeFor h a K := by
  unfold wp_J1_tableSizeFor wp_J1_tableSizeFor_b31
  refine s_nlz (fun _ => ?_)
  unfold tsf_ at k
  refine ⟨fun w => ⟨fun z => ?_, fun z => ?_⟩, fun w => ?_⟩
  · unfold shr_ at k
    rw [if_pos w, if_pos z] at k; exact k
  · unfold shr_ at k
    rw [if_pos w, if_neg z] at k; exact k
  · unfold shr_ at k
    rw [if_neg w] at k; exact k
theorem tsf_all : ((List.range 2049).all (fun t => t == 0 || (List.range 12).any (fun e => decide (tsf_ (nI t) = nI (2 ^ e))))) = true := by decide +kernel
theorem tsf_pow {t : Nat} (h1 : 1 ≤ t) (h2 : t ≤ 2048) : ∃ e, e ≤ 11 ∧ tsf_ (nI t) = nI (2 ^ e) := by
  have := List.all_eq_true.mp tsf_all t (List.mem_range.mpr (by omega))
  rcases Bool.or_eq_true_iff.mp this with w | w
  · simp at w; omega
  · obtain ⟨e, he, w⟩ := List.any_eq_true.mp w
    exact ⟨e, by have := List.mem_range.mp he; omega, of_decide_eq_true w⟩
/-- a map without pairs -/
theorem mi_empty {h : Hp} {m : Nat} (km : kd h m = 2 ∨ kd h m = 3) (r : ∀ f, rf h f m = none) (e15 : it h 15 m = 0) (e18 : it h 18 m = 1061158912) (e17 : it h 17 m = 0 ∨ it h 17 m = 16) (e2 : kd h m = 3 → it h 22 m = 0 ∧ (it h 21 m = 0 ∨ it h 21 m = 1)) : MI h m 0 [] ∧ VW h m := by
  refine ⟨⟨⟨fun _ => [], km, List.nodup_nil, List.Perm.refl _, (fun a ha => by cases ha), Or.inl ⟨rfl, r 13⟩, fun _ => ⟨r 19, r 20, trivial, trivial⟩, e18, Or.inl ⟨rfl, ?_⟩⟩, e15, e2⟩, (fun e he => by rw [r] at he; cases he), (fun e he => by rw [r] at he; cases he)⟩
  rcases e17 with w | w
  · exact Or.inl w
  · exact Or.inr ⟨4, by omega, by rw [w]; decide⟩
theorem o_init {h : Hp} {xo C Q : Nat} {K : Hp → Prop} (hx : kd h xo = 1) (b1 : nc h + 3 + 108000 + C ≤ 679679) (b2 : ns h + 32 + 1440000 + Q ≤ 7063211) (fin : ∀ h' m, RS h' xo m (fun _ => 0) (fun _ => []) (fun _ => []) C Q → Ex h h' → (∀ f b, kd h b ≠ 0 → b ≠ xo → rf h' f b = rf h f b ∧ it h' f b = it h f b) → nc h' = nc h + 3 → ns h' = ns h + 32 → K h') : wp_X0_init h (some xo) K := by
  unfold wp_X0_init
  refine ⟨xo, rfl, ⟨by omega, by omega⟩, fun a ha h1 e1 => ?_⟩
  have xa : xo ≠ a := fun w => by rw [w] at hx; omega
  have E1 : Ex h h1 := by rw [e1]; exact (Ex.refl h).nw 2 0 ha
  unfold wp_J1_init wp_J0_init
  refine ⟨a, rfl, a, rfl, fun _ h2 e2 _ h3 e3 => ?_⟩
  have E3 : Ex h h3 := by rw [e3, e2]; exact E1
  have n3 : nc h3 = nc h + 1 := by rw [e3, e2, e1]; rfl
  have s3 : ns h3 = ns h + 8 := by rw [e3, e2, e1]; rfl
  refine ⟨⟨by omega, by omega⟩, fun b hb h4 e4 => ?_⟩
  have ka3 : kd h3 a = 2 := by rw [e3, e2, e1, kd_wR, kd_wI, kd_nw, if_pos rfl]
  have kx3 : kd h3 xo = 1 := by rw [(E3.1 xo (by omega)).1]; exact hx
  have ba : b ≠ a := fun w => by rw [w] at hb; omega
  have bx : b ≠ xo := fun w => by rw [w] at hb; omega
  have E4 : Ex h3 h4 := by rw [e4]; exact (Ex.refl h3).nw 3 0 hb
  unfold wp_J2_init wp_J1_init wp_J0_init
  refine ⟨b, rfl, b, rfl, b, rfl, fun _ h5 e5 _ h6 e6 h7 e7 _ h8 e8 => ?_⟩
  have E8 : Ex h3 h8 := by rw [e8, e7, e6, e5]; exact E4
  have n8 : nc h8 = nc h + 2 := by rw [e8, e7, e6, e5, e4]; show nc h3 + 1 = _; omega
  have s8 : ns h8 = ns h + 20 := by rw [e8, e7, e6, e5, e4]; show ns h3 + 12 = _; omega
  refine ⟨⟨by omega, by omega⟩, fun c hc h9 e9 => ?_⟩
  have ka8 : kd h8 a = 2 := by rw [(E8.1 a (by omega)).1]; exact ka3
  have kb8 : kd h8 b = 3 := by rw [e8, e7, e6, e5, e4, kd_wR, kd_wI, kd_wI, kd_wI, kd_nw, if_pos rfl]
  have kx8 : kd h8 xo = 1 := by rw [(E8.1 xo (by omega)).1]; exact kx3
  have ca : c ≠ a := fun w => by rw [w] at hc; omega
  have cb : c ≠ b := fun w => by rw [w] at hc; omega
  have cx : c ≠ xo := fun w => by rw [w] at hc; omega
  have E9 : Ex h8 h9 := by rw [e9]; exact (Ex.refl h8).nw 3 0 hc
  unfold wp_J2_init_2 wp_J1_init_2 wp_J0_init
  refine ⟨c, rfl, c, rfl, c, rfl, fun _ => ⟨fun _ => ⟨fun _ => ?_, fun w => absurd (by decide) w⟩, fun w => absurd (by decide) w⟩⟩
  unfold wp_J1_init_2_b44 wp_J4_isNaN wp_J4_isNaN_b11
  refine ⟨fun w => absurd w (by decide +kernel), fun _ => ⟨fun _ => ⟨Or.inl rfl, fun _ => ⟨fun _ => ⟨c, rfl, fun h10 e10 => s_tsf (fun _ h11 e11 _ h12 e12 => ⟨Or.inr rfl, fun h13 e13 _ h14 e14 => ?_⟩)⟩, fun w => absurd rfl w⟩⟩, fun w => absurd (by decide +kernel) w⟩⟩
  have t16 : tsf_ 16 = 16 := by decide +kernel
  rw [t16] at e11
  have E14 : Ex h8 h14 := by rw [e14, e13, e12, e11, e10]; exact E9
  have E : Ex h h14 := E3.trans (E8.trans E14)
  have ka : kd h14 a = 2 := by rw [(E14.1 a (by omega)).1]; exact ka8
  have kb : kd h14 b = 3 := by rw [(E14.1 b (by omega)).1]; exact kb8
  have kx : kd h14 xo = 1 := by rw [(E14.1 xo (by omega)).1]; exact kx8
  have kc : kd h14 c = 3 := by rw [e14, e13, e12, e11, e10, e9, kd_wR, kd_wI, kd_wI, kd_wI, kd_wI, kd_nw, if_pos rfl]
  have n14 : nc h14 = nc h + 3 := by rw [e14, e13, e12, e11, e10, e9]; show nc h8 + 1 = _; omega
  have s14 : ns h14 = ns h + 32 := by rw [e14, e13, e12, e11, e10, e9]; show ns h8 + 12 = _; omega
  have ab := ba.symm
  have ac := ca.symm
  have bc := cb.symm
  have ax := xa.symm
  have xb := bx.symm
  have xc := cx.symm
  have ra : ∀ f, rf h14 f a = none := fun f => by
    rw [e14, e13, e12, e11, e10, e9, e8, e7, e6, e5, e4, e3, e2, e1]
    simp [rf_wR, rf_wI, rf_nw, ab, ac, ax]
  have rb : ∀ f, rf h14 f b = none := fun f => by
    rw [e14, e13, e12, e11, e10, e9, e8, e7, e6, e5, e4]
    simp [rf_wR, rf_wI, rf_nw, ba, bc, bx]
  have rc : ∀ f, rf h14 f c = none := fun f => by
    rw [e14, e13, e12, e11, e10, e9]
    simp [rf_wR, rf_wI, rf_nw, ca, cb, cx]
  have ia : ∀ f, it h14 f a = if f = 18 then 1061158912 else 0 := fun f => by
    rw [e14, e13, e12, e11, e10, e9, e8, e7, e6, e5, e4, e3, e2, e1]
    simp [it_wR, it_wI, it_nw, ab, ac, ax]
    try rfl
  have ib : ∀ f, it h14 f b = if f = 18 then 1061158912 else 0 := fun f => by
    rw [e14, e13, e12, e11, e10, e9, e8, e7, e6, e5, e4]
    simp [it_wR, it_wI, it_nw, ba, bc, bx]
    by_cases q1 : f = 18
    · simp [q1]; try rfl
    · simp [q1]
  have ic : ∀ f, it h14 f c = if f = 18 then 1061158912 else if f = 17 then 16 else if f = 21 then 1 else 0 := fun f => by
    rw [e14, e13, e12, e11, e10, e9]
    simp [it_wR, it_wI, it_nw, ca, cb, cx]
    by_cases q1 : f = 18
    · simp [q1]; try rfl
    · by_cases q2 : f = 17
      · simp [q2]
      · by_cases q3 : f = 21
        · simp [q3]
        · simp [q1, q2, q3]
  have rx24 : rf h14 24 xo = some a := by
    rw [e14, e13, e12, e11, e10, e9, e8, e7, e6, e5, e4, e3]
    simp [rf_wR, rf_wI, rf_nw, xb, xc]
  have rx25 : rf h14 25 xo = some b := by
    rw [e14, e13, e12, e11, e10, e9, e8]
    simp [rf_wR, rf_wI, rf_nw, xb, xc]
  have rx26 : rf h14 26 xo = some c := by
    rw [e14, rf_wR, if_pos ⟨rfl, rfl⟩]
  have fr : ∀ f y, kd h y ≠ 0 → y ≠ xo → rf h14 f y = rf h f y ∧ it h14 f y = it h f y := fun f y hy yx => by
    have ya : y ≠ a := fun w => hy (w ▸ ha)
    have yb : y ≠ b := fun w => by
      have := (E3.1 y hy).1
      rw [w, hb] at this
      exact hy (by rw [w]; exact this.symm)
    have yc : y ≠ c := fun w => by
      have := ((E3.trans E8).1 y hy).1
      rw [w, hc] at this
      exact hy (by rw [w]; exact this.symm)
    rw [e14, e13, e12, e11, e10, e9, e8, e7, e6, e5, e4, e3, e2, e1]
    simp [rf_wR, rf_wI, rf_nw, it_wR, it_wI, it_nw, ya, yb, yc, yx]
  obtain ⟨Ma, Va⟩ := mi_empty (h := h14) (m := a) (Or.inl ka) ra (by rw [ia]; rfl) (by rw [ia]; rfl) (Or.inl (by rw [ia]; rfl)) (fun w => by omega)
  obtain ⟨Mb, Vb⟩ := mi_empty (h := h14) (m := b) (Or.inr kb) rb (by rw [ib]; rfl) (by rw [ib]; rfl) (Or.inl (by rw [ib]; rfl)) (fun w => ⟨by rw [ib]; rfl, Or.inl (by rw [ib]; rfl)⟩)
  obtain ⟨Mc, Vc⟩ := mi_empty (h := h14) (m := c) (Or.inr kc) rc (by rw [ic]; rfl) (by rw [ic]; rfl) (Or.inr (by rw [ic]; rfl)) (fun w => ⟨by rw [ic]; rfl, Or.inr (by rw [ic]; rfl)⟩)
  refine fin h14 (fun k => if k = 0 then a else if k = 1 then b else c) ⟨⟨kx, rx24, rx25, rx26⟩, ⟨ka, kb, kc, by show it h14 21 b = 0; rw [ib]; rfl, by show it h14 21 c = 1; rw [ic]; rfl⟩, fun k hk => ?_, fun j k hj hk e y w1 w2 => ?_, ?_, ?_⟩ E fr n14 s14
  · have : k = 0 ∨ k = 1 ∨ k = 2 := by omega
    rcases this with rfl | rfl | rfl
    · exact ⟨Ma, Va, rfl⟩
    · exact ⟨Mb, Vb, rfl⟩
    · exact ⟨Mc, Vc, rfl⟩
  · have rn : ∀ k, rf h14 13 ((fun k => if k = 0 then a else if k = 1 then b else c) k) = none := fun k => by
      show rf h14 13 (if k = 0 then a else if k = 1 then b else c) = none
      split
      · exact ra 13
      · split
        · exact rb 13
        · exact rc 13
    have u1 : y = (fun k => if k = 0 then a else if k = 1 then b else c) j := by
      rcases w1 with w | w | w
      · exact w
      · cases w
      · rw [rn] at w; cases w
    have u2 : y = (fun k => if k = 0 then a else if k = 1 then b else c) k := by
      rcases w2 with w | w | w
      · exact w
      · cases w
      · rw [rn] at w; cases w
    have u3 := u1.symm.trans u2
    have hj3 : j = 0 ∨ j = 1 ∨ j = 2 := by omega
    have hk3 : k = 0 ∨ k = 1 ∨ k = 2 := by omega
    rcases hj3 with rfl | rfl | rfl <;> rcases hk3 with rfl | rfl | rfl <;> first | exact absurd rfl e | exact absurd u3 ab | exact absurd u3 ac | exact absurd u3 ba | exact absurd u3 bc | exact absurd u3 ca | exact absurd u3 cb
  · have : ∀ k, ptC h14 (fun _ => 0) (fun _ => []) k = 36000 := fun k => by unfold ptC; rfl
    rw [this, this, this]; omega
  · have : ∀ k, ptS h14 (fun _ => 0) (fun _ => []) k = 480000 := fun k => by unfold ptS; rfl
    rw [this, this, this]; omega
