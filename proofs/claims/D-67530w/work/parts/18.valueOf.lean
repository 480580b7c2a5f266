/-! Integer.valueOf -/
set_option maxRecDepth 100000
def wp_J5_valueOf (h : Hp) (x0 : Int32) (K : Option Nat → Hp → Prop) : Prop :=
  ((-128 ≤ x0 ∧ x0 ≤ 127) → ∀ b, kd h b = 60 → it h 23 b = x0 → K (some b) h) ∧ (¬ (-128 ≤ x0 ∧ x0 ≤ 127) → Rm h 1 1 ∧ ∀ a, kd h a = 0 → ∀ h1, h1 = nw h a 4 0 → wp_J5_init h1 (some a) x0 (fun h2 => Ex h1 h2 → K (some a) h2))
theorem okn_vo : okN ⟨"java/lang/Integer", "<init>", "(I)V"⟩ 1 := by decide +kernel
theorem vb_inv {x : Int32} (h1 : -128 ≤ x) (h2 : x ≤ 127) : (x + 128).toNatClampNeg < 256 ∧ vb_c (x + 128).toNatClampNeg = x ∧ ¬ (x + 128) < 0 := by
  have e1 : -128 ≤ x.toInt := by simpa using Int32.le_iff_toInt_le.mp h1
  have e2 : x.toInt ≤ 127 := by simpa using Int32.le_iff_toInt_le.mp h2
  have e3 : (x + 128).toInt = x.toInt + 128 := by
    rw [Int32.toInt_add, show (128 : Int32).toInt = 128 from rfl]
    exact Int.bmod_eq_of_le (by omega) (by omega)
  have e4 : (x + 128).toNatClampNeg = (x.toInt + 128).toNat := by rw [← e3]; rfl
  refine ⟨by rw [e4]; omega, ?_, ?_⟩
  · rw [e4]
    unfold vb_c
    apply Int32.toInt_inj.mp
    rw [Int32.toInt_sub, show (128 : Int32).toInt = 128 from rfl, Int32.toInt_ofNat_of_lt (by omega)]
    rw [Int.bmod_eq_of_le (by omega) (by omega)]
    omega
  · intro q
    have := Int32.lt_iff_toInt_lt.mp q
    rw [e3] at this
    simp at this
    omega
set_option maxHeartbeats 4000000 in
theorem wk_J5_valueOf {X : Fx} {K : Option Nat → Hp → Prop} (C : Cx X cJ5_valueOf yJ5_valueOf.cls 1 4) (Rr : Rx X (Option.some (Jvm.ClassFile.FieldType.object "java/lang/Integer")) (pR [4, 60] K)) (N : Nm X yJ5_valueOf.name) (h : Hp) (x0 : Int32) (w : wp_J5_valueOf h x0 K) : Gd X h 0 [some (vI x0)] [] := by
  unfold wp_J5_valueOf at w
  have kN : ¬ (-128 ≤ x0 ∧ x0 ≤ 127) → Gd X h 23 [some (vI x0)] [] := by
    intro hn
    obtain ⟨r, w⟩ := w.2 hn
    refine g_new 4 26 rfl C dJ5_valueOf_23 rfl q170 q171 q15 r (fun a z => ?_)
    have w := w a z _ rfl
    refine g_dup 27 rfl C dJ5_valueOf_26 rfl ?_
    refine g_iload_n 28 rfl C dJ5_valueOf_27 rfl ?_
    refine g_callI (As := [vI _]) (T := [4]) (st := [vR [4] _]) 31 rfl C dJ5_valueOf_28 q172 q173 q15 q174 rfl okn_vo (by decide) (by decide) (Nat.le_of_ble_eq_true rfl) rfl rfl (ct_J5_init C.glob w) (fun r0 h1 p1 x1 _ => ?_)
    obtain ⟨rfl, w⟩ := p1
    have w := w x1
    change Gd _ _ _ _ [vR [4] _]
    exact g_areturn [4, 60] C Rr rfl dJ5_valueOf_31 rfl ⟨_, rfl, w⟩
  refine g_iload_n 1 rfl C dJ5_valueOf_0 rfl ?_
  refine g_bipush 3 rfl C dJ5_valueOf_1 (-128) (by decide) ?_
  refine g_icmp_lt 6 23 rfl C dJ5_valueOf_3 rfl (fun q => ?_) (fun q => ?_)
  · exact kN (fun z => absurd q (Int32.not_lt.mpr z.1))
  · refine g_iload_n 7 rfl C dJ5_valueOf_6 rfl ?_
    refine g_gets (fun E hG => hG.2.2.2.2.2.2.1) 10 rfl C dJ5_valueOf_7 q166 ?_
    refine g_icmp_gt 13 23 rfl C dJ5_valueOf_10 rfl (fun q' => ?_) (fun q' => ?_)
    · exact kN (fun z => absurd q' (Int32.not_lt.mpr z.2))
    · have hlo1 : -128 ≤ x0 := Int32.not_lt.mp q
      have hhi1 : x0 ≤ 127 := Int32.not_lt.mp q'
      have w := w.1 ⟨hlo1, hhi1⟩
      obtain ⟨c1, c2, c3⟩ := vb_inv hlo1 hhi1
      have kk : ∀ b, kd h b = 60 → it h 23 b = x0 → Gd X h 22 [some (vI x0)] [vR [60] (some b)] := fun b h1 h2 => g_areturn [4, 60] C Rr rfl dJ5_valueOf_22 rfl ⟨_, rfl, w b h1 h2⟩
      obtain ⟨E, h0, p, e, R, s, m, args, below, meth, c, Q⟩ := X
      obtain ⟨hx, hb, hml, ho, hts, hlk, hG, hwm, hfr, hlo, hrc, hrs, hsz, hss⟩ := C
      intro H locs ls hV hL hl hE hT hS
      obtain ⟨hvb, -, t, hZ, hTt⟩ := hG.2.2.2.2.2
      obtain ⟨v1, v2⟩ := hV.2.2.2.1 (x0 + 128).toNatClampNeg c1
      have kk := kk _ v1 (by rw [v2, c2]) H locs ls hV hL hl hE hT (TS.c ⟨by rw [v1]; decide, by rw [v1]; decide⟩ (TS.nil h))
      obtain ⟨cf, kf, fi, f, a, cell, h1, h2, h3, h4, h5, h6, h7, h8⟩ := Z_kept hZ hwm.alike hV
      refine W.gets hx hb ho (hts _ q168) h1 h2 h3 h4 h5 (fun e => by rw [e] at h6; cases h6) h7 rfl dJ5_valueOf_13 ?_
      refine lv_iload_n hx hb dJ5_valueOf_16 rfl (hl.get (k := 0) (t := vI x0) rfl) ?_
      refine lv_sipush hx hb dJ5_valueOf_17 (v := 128) (by decide) ?_
      refine lv_iadd hx hb dJ5_valueOf_20 ?_
      obtain ⟨tc, t1, t2, t3, t4, t5, t6, t7⟩ := hTt
      have hold : t < E.1.heap.size := by
        have : ¬ E.1.heap.size ≤ t := t7
        omega
      refine W.aald (v := .ref (E.2.2.2.2.2 (x0 + 128).toNatClampNeg)) (ty := .object "java/lang/Integer") hx hb (by rw [hV.2.1 t hold]; exact t1) (State.isArrayOf_alike hwm.alike t2) rfl t3 (fun q => by rcases q with q | q; exact c3 q; omega) (t6 _ c1) rfl rfl dJ5_valueOf_21 kk
theorem ct_J5_valueOf {E : Gx} (GE : Glob E) {h : Hp} {x0 : Int32} {K : Option Nat → Hp → Prop} (w : wp_J5_valueOf h x0 K) : Ct E yJ5_valueOf cJ5_valueOf 1 (Option.some (Jvm.ClassFile.FieldType.object "java/lang/Integer")) 4 [vI x0] h (pR [4, 60] K) :=
  Ct.of GE rfl (by simp [lvA, t2]) rfl (fun X hX C Rr N => wk_J5_valueOf C Rr N h x0 w)
