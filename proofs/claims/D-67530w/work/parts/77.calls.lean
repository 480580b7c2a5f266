/-! THE REAL CALLS: those without loops -/
set_option maxRecDepth 100000
theorem MI.kdp {h : Hp} {m n : Nat} {O : List Nat} (M : MI h m n O) : KD (O.map (pr h)) := by
  obtain ⟨⟨bn, kb⟩, -⟩ := M
  unfold KD
  rw [List.map_map]
  exact List.pairwise_map.mpr (List.Pairwise.imp_of_mem (fun {a b} ha hb ne e => ne (kb.kinj ha hb e)) kb.2.1)
theorem pr_get1 {h : Hp} {m n a : Nat} {O : List Nat} {c : Int32} (M : MI h m n O) (ha : a ∈ O) (e : keyI h a = c) : aget (O.map (pr h)) c = some (valI h a) := by
  have := aget_in M.kdp (List.mem_map.mpr ⟨a, ha, rfl⟩)
  rw [← e]; exact this
theorem pr_get0 {h : Hp} {O : List Nat} {c : Int32} (ne : ∀ a ∈ O, keyI h a ≠ c) : aget (O.map (pr h)) c = none := aget_none (fun p hp => by
  obtain ⟨a, ha, rfl⟩ := List.mem_map.mp hp
  exact ne a ha)
theorem MI.nd {h : Hp} {m n : Nat} {O : List Nat} (M : MI h m n O) : O.Nodup := by
  obtain ⟨⟨bn, kb⟩, -⟩ := M
  exact kb.2.1
theorem MI.ok {h : Hp} {m n : Nat} {O : List Nat} (M : MI h m n O) : ∀ x ∈ O, NodeOK h x := by
  obtain ⟨⟨bn, kb⟩, -⟩ := M
  exact kb.ok
theorem MI.kinj {h : Hp} {m n : Nat} {O : List Nat} (M : MI h m n O) {y z : Nat} (hy : y ∈ O) (hz : z ∈ O) (e : keyI h y = keyI h z) : y = z := by
  obtain ⟨⟨bn, kb⟩, -⟩ := M
  exact kb.kinj hy hz e
theorem pr_del {h : Hp} {m n a : Nat} {O : List Nat} (M : MI h m n O) (ha : a ∈ O) : (flt a O).map (pr h) = adel (O.map (pr h)) (keyI h a) := by
  have d := M.kdp
  have nd := M.nd
  obtain ⟨X, Y, rfl⟩ := List.append_of_mem ha
  rw [flt_mid nd]
  rw [List.map_append, List.map_cons] at d
  rw [List.map_append, List.map_append, List.map_cons]
  exact (adel_mid (p := pr h a) d.mid.1 d.mid.2).symm
theorem use_map {k a : Nat} {O : List Nat} {g : Nat → Int32 × Int32} (nd : O.Nodup) (ha : a ∈ O) (d : KD (O.map g)) : (if k = 2 then O.erase a ++ [a] else O).map g = ause k (O.map g) (g a).1 := by
  unfold ause
  by_cases e : k = 2
  · rw [if_pos e, if_pos e]
    obtain ⟨X, Y, rfl⟩ := List.append_of_mem ha
    rw [erase_mid nd]
    simp only [List.map_append, List.map_cons, List.map_nil] at d ⊢
    rw [adel_mid d.mid.1 d.mid.2, aone_mid d.mid.1 d.mid.2]
  · rw [if_neg e, if_neg e]
theorem set_map {h h' : Hp} {m n a : Nat} {O : List Nat} {v : Int32} (M : MI h m n O) (ha : a ∈ O) (P : ∀ y ∈ O, pr h' y = if y = a then (keyI h a, v) else pr h y) : O.map (pr h') = aset (O.map (pr h)) (keyI h a) v := by
  unfold aset
  rw [List.map_map]
  refine List.map_congr_left (fun y hy => ?_)
  rw [P y hy]
  show _ = if keyI h y = keyI h a then (keyI h a, v) else pr h y
  by_cases e : y = a
  · rw [if_pos e, if_pos (by rw [e])]
  · rw [if_neg e, if_neg (fun w => e (M.kinj hy ha w))]
theorem rs_acc {h : Hp} {xo : Nat} {m n : Nat → Nat} {O : Nat → List Nat} {A : AS} {C Q k : Nat} (R : RS h xo m n O A C Q) (hk : k < 3) (L : List Nat) (a : Nat) : acc h (m k) L a = if k = 2 then L.erase a ++ [a] else L := by
  obtain ⟨-, ⟨t0, t1, t2, t3, t4⟩, -⟩ := R
  unfold acc
  have : k = 0 ∨ k = 1 ∨ k = 2 := by omega
  rcases this with rfl | rfl | rfl
  · rw [if_neg (fun w => by rw [t0] at w; cases w.1), if_neg (by decide)]
  · rw [if_neg (fun w => by rw [t3] at w; cases w.2), if_neg (by decide)]
  · rw [if_pos ⟨t2, t4⟩, if_pos rfl]
theorem mix_lt {i : Int32} {k : Nat} (e : mix i = some k) : k < 3 := by
  unfold mix at e
  split at e
  · cases e; omega
  · split at e
    · cases e; omega
    · split at e
      · cases e; omega
      · cases e
theorem s_X0_map {h : Hp} {xo : Nat} {m n : Nat → Nat} {O : Nat → List Nat} {A : AS} {C Q : Nat} {i : Int32} {G : Option Nat → Hp → Prop} (R : RS h xo m n O A C Q) (f1 : ∀ k, k < 3 → mix i = some k → G (some (m k)) h) (f0 : mix i = none → G none h) : wp_X0_map h (some xo) i G := by
  obtain ⟨⟨r1, r2, r3, r4⟩, -⟩ := R
  unfold wp_X0_map
  refine ⟨fun e => ⟨xo, rfl, ?_⟩, fun e0 => ⟨fun e => ⟨xo, rfl, ?_⟩, fun e1 => ⟨fun e => ⟨xo, rfl, ?_⟩, fun e2 => ?_⟩⟩⟩
  · rw [r2]; exact f1 0 (by omega) (by unfold mix; rw [if_pos e])
  · rw [r3]; exact f1 1 (by omega) (by unfold mix; rw [if_neg e0, if_pos e])
  · rw [r4]; exact f1 2 (by omega) (by unfold mix; rw [if_neg e0, if_neg e1, if_pos e])
  · exact f0 (by unfold mix; rw [if_neg e0, if_neg e1, if_neg e2])
theorem s_valueOf {h : Hp} {v : Int32} {K : Option Nat → Hp → Prop} (rm : Rm h 1 1) (fin : ∀ b h', Nws h h' → (kd h' b = 4 ∨ kd h' b = 60) → it h' 23 b = v → nc h' ≤ nc h + 1 → ns h' ≤ ns h + 1 → K (some b) h') : wp_J5_valueOf h v K := by
  unfold wp_J5_valueOf
  refine ⟨fun _ b hb e => fin b h (Nws.refl h) (Or.inr hb) e (by omega) (by omega), fun _ => ⟨rm, fun a ha h1 e1 => ?_⟩⟩
  subst e1
  unfold wp_J5_init wp_J3_init
  refine ⟨a, rfl, a, rfl, fun _ h2 e2 _ => ?_⟩
  subst e2
  refine fin a _ (((Nws.refl h).nw 4 0 ha).chg ((Chg.refl (fun _ b => b = a) _).wI v rfl) ha) (Or.inl ?_) ?_ ?_ ?_
  · rw [kd_wI, kd_nw, if_pos rfl]
  · rw [it_wI, if_pos ⟨rfl, rfl⟩]
  · rw [nc_wI, nc_nw]; exact Nat.le_refl _
  · rw [ns_wI, ns_nw]; exact Nat.le_refl _
theorem RS.rm {h : Hp} {xo : Nat} {m n : Nat → Nat} {O : Nat → List Nat} {A : AS} {C Q c q : Nat} (R : RS h xo m n O A C Q) (h1 : c ≤ C) (h2 : q ≤ Q) : Rm h c q := by
  obtain ⟨-, -, -, -, r1, r2⟩ := R
  unfold Rm
  omega
theorem RS.len {h : Hp} {xo : Nat} {m n : Nat → Nat} {O : Nat → List Nat} {A : AS} {C Q k : Nat} (R : RS h xo m n O A C Q) (hk : k < 3) : (O k).length = (A k).length := by
  rw [← (R.2.2.1 k hk).2.2, List.length_map]
theorem told_val {h h' : Hp} {a : Nat} {K : Int64 → Hp → Prop} (k : NodeOK h a) (f : IntS h h') (fin : K (valI h a).toInt64 h') : wp_X0_told h' (rf h 2 a) K := by
  obtain ⟨-, b, h1, h2⟩ := k
  have e : valI h a = it h' 23 b := by unfold valI; rw [h1]; exact (f b h2).2.symm
  rw [e] at fin
  rw [h1]
  unfold wp_X0_told wp_X0_told_b15 wp_J5_intValue
  exact ⟨(fun q => by cases q), fun a q => ⟨b, rfl, fun _ => fin⟩⟩
theorem told_none {h : Hp} {K : Int64 → Hp → Prop} (fin : K 1099511627776 h) : wp_X0_told h none K := by
  unfold wp_X0_told wp_X0_told_b15
  exact ⟨fun _ => fin, (fun a q => by cases q)⟩
/-- a step of the map k that is seen from all three -/
theorem RS.mst {h h' : Hp} {xo : Nat} {m n : Nat → Nat} {O : Nat → List Nat} {A : AS} {C Q C' Q' k n' : Nat} {O' : List Nat} {A' : List (Int32 × Int32)} (R : RS h xo m n O A C Q) (hk : k < 3) (s : Mst h h' (m k) (O k) O') (M' : MI h' (m k) n' O') (eA : O'.map (pr h') = A') (B' : Bud h' n' O' (C' + oth (ptC h n O) k) (Q' + oth (ptS h n O) k)) : RS h' xo m (ufn n k n') (ufn O k O') (ufn A k A') C' Q' ∧ Fr h h' :=
  ⟨R.step hk s.ost M' ((R.2.2.1 k hk).2.1.mst (R.2.2.1 k hk).1 s) eA B', s.ost.fr (R.2.2.1 k hk).1⟩
theorem RS.bud2 {h : Hp} {xo : Nat} {m n : Nat → Nat} {O : Nat → List Nat} {A : AS} {C Q C' Q' c q k : Nat} (R : RS h xo m n O A C Q) (hk : k < 3) (h1 : C' + c ≤ C) (h2 : Q' + q ≤ Q) : Bud h (n k) (O k) (C' + oth (ptC h n O) k + c) (Q' + oth (ptS h n O) k + q) := (R.bud hk).mono (by omega) (by omega)
theorem RS.mono {h : Hp} {xo : Nat} {m n : Nat → Nat} {O : Nat → List Nat} {A : AS} {C Q C' Q' : Nat} (R : RS h xo m n O A C Q) (h1 : C' ≤ C) (h2 : Q' ≤ Q) : RS h xo m n O A C' Q' := R.nws (Nws.refl h) (by omega) (by omega)
theorem aput_none {j : Nat} {l : List (Int32 × Int32)} {k v : Int32} (e : aget l k = none) : aput j l k v = l ++ [(k, v)] := by unfold aput; rw [if_pos e]
theorem aput_some {j : Nat} {l : List (Int32 × Int32)} {k v w : Int32} (e : aget l k = some w) : aput j l k v = ause j (aset l k v) k := by unfold aput; rw [if_neg (fun q => by rw [e] at q; cases q)]
/-- a put into the map j, of two Integers -/
theorem rs_put {h : Hp} {xo : Nat} {m n : Nat → Nat} {O : Nat → List Nat} {A : AS} {C Q j b c : Nat} {K : Option Nat → Hp → Prop} (R : RS h xo m n O A (C + 2) (Q + 17)) (hj : j < 3) (sz : (A j).length ≤ 1463) (kb : kd h b = 4 ∨ kd h b = 60) (kc : kd h c = 4 ∨ kd h c = 60)
    (fin1 : ∀ a h' n' O', NodeOK h a → aget (A j) (it h 23 b) = some (valI h a) → RS h' xo m n' O' (ufn A j (aput j (A j) (it h 23 b) (it h 23 c))) C Q → Fr h h' → K (rf h 2 a) h')
    (fin0 : ∀ h' n' O', aget (A j) (it h 23 b) = none → RS h' xo m n' O' (ufn A j (aput j (A j) (it h 23 b) (it h 23 c))) C Q → Fr h h' → K none h') : wp_J1_put h (some (m j)) (some b) (some c) K := by
  obtain ⟨M, V, eA⟩ := R.2.2.1 j hj
  refine s_put M (by rw [R.len hj]; exact sz) kb kc (R.bud2 (C' := C) (Q' := Q) (c := 2) (q := 17) hj (Nat.le_refl _) (Nat.le_refl _)) (fun a ha e h' M' S P B' => ?_) (fun ne h' n' O' M' S P B' => ?_)
  · have ag := pr_get1 M ha e
    rw [eA] at ag
    have P2 := set_map M ha P
    have d2 : KD ((O j).map (pr h')) := by rw [P2]; exact M.kdp.set _ _
    have eu := use_map (k := j) M.nd ha d2
    rw [← rs_acc R hj] at eu
    obtain ⟨R', f'⟩ := R.mst hj S M' eu B'
    have : (pr h' a).1 = it h 23 b := by rw [P a ha, if_pos rfl]; exact e
    rw [this, P2, eA, e, ← aput_some (j := j) (v := it h 23 c) ag] at R'
    exact fin1 a h' _ _ (M.ok a ha) ag R' f'
  · have ag := pr_get0 ne
    rw [eA] at ag
    rw [eA, ← aput_none (j := j) ag] at P
    obtain ⟨R', f'⟩ := R.mst hj S M' P B'
    exact fin0 h' _ _ ag R' f'
theorem o_put {h : Hp} {xo : Nat} {m n : Nat → Nat} {O : Nat → List Nat} {A : AS} {C Q : Nat} {i k v : Int32} {K : Int64 → Hp → Prop} (R : RS h xo m n O A (C + 4) (Q + 19)) (sz : ∀ j, j < 3 → (A j).length ≤ 1463) (fin : ∀ h' n' O', RS h' xo m n' O' (sput A i k v).1 C Q → Fr h h' → K (sput A i k v).2 h') : wp_X0_put h (some xo) i k v K := by
  unfold wp_X0_put
  refine ⟨xo, rfl, s_X0_map R (fun j hj e _ => ⟨(fun q => by cases q), fun a q => ?_⟩) (fun e _ => ⟨fun _ => ?_, (fun a q => by cases q)⟩)⟩
  · cases q
    have es : sput A i k v = (ufn A j (aput j (A j) k v), tld (aget (A j) k)) := by unfold sput; rw [e]
    rw [es] at fin
    refine s_valueOf (R.rm (by omega) (by omega)) (fun b h1 N1 kb e1 c1 c2 _ => s_valueOf ((R.nws N1 (C' := C + 3) (Q' := Q + 18) (by omega) (by omega)).rm (by omega) (by omega)) (fun b2 h2 N2 kb2 e2 c3 c4 _ => ?_))
    have R2 : RS h2 xo m n O A (C + 2) (Q + 17) := R.nws (N1.trans N2) (by omega) (by omega)
    have f2 := (N1.trans N2).fr
    have b0 : kd h1 b ≠ 0 := by omega
    have kb' : kd h2 b = 4 ∨ kd h2 b = 60 := by rw [(N2.1.1 b b0).1]; exact kb
    have eb : it h2 23 b = k := by rw [(N2.2 23 b b0).2]; exact e1
    refine rs_put R2 hj (sz j hj) kb' kb2 (fun a h' n' O' ok ag R' f' _ => ?_) (fun h' n' O' ag R' f' _ => ?_)
    · rw [eb, e2] at R'
      rw [eb] at ag
      rw [ag] at fin
      unfold wp_X0_put_b31 wp_X0_put_b37
      exact told_val ok f'.int (fun _ => fin h' n' O' R' (f2.trans f'))
    · rw [eb, e2] at R'
      rw [eb] at ag
      rw [ag] at fin
      unfold wp_X0_put_b31 wp_X0_put_b37
      exact told_none (fun _ => fin h' n' O' R' (f2.trans f'))
  · have es : sput A i k v = (A, 1099511627777) := by unfold sput; rw [e]
    rw [es] at fin
    unfold wp_X0_put_b37
    exact fin h n O (R.mono (by omega) (by omega)) (Fr.refl h)
/-- nothing but the order of the map j may have changed -/
theorem RS.used {h h' : Hp} {xo : Nat} {m n : Nat → Nat} {O : Nat → List Nat} {A : AS} {C Q C' Q' j a : Nat} {k : Int32} (R : RS h xo m n O A C Q) (hj : j < 3) (ha : a ∈ O j) (e : keyI h a = k) (M' : MI h' (m j) (n j) (acc h (m j) (O j) a)) (S : Mst h h' (m j) (O j) (acc h (m j) (O j) a)) (P : ∀ y ∈ O j, pr h' y = pr h y) (B' : Bud h' (n j) (acc h (m j) (O j) a) (C' + oth (ptC h n O) j) (Q' + oth (ptS h n O) j)) : aget (A j) k = some (valI h a) ∧ RS h' xo m (ufn n j (n j)) (ufn O j (acc h (m j) (O j) a)) (ufn A j (ause j (A j) k)) C' Q' ∧ Fr h h' := by
  obtain ⟨M, V, eA⟩ := R.2.2.1 j hj
  have ag := pr_get1 M ha e
  rw [eA] at ag
  have P2 : (O j).map (pr h') = (O j).map (pr h) := List.map_congr_left P
  have d2 : KD ((O j).map (pr h')) := by rw [P2]; exact M.kdp
  have eu := use_map (k := j) M.nd ha d2
  rw [← rs_acc R hj] at eu
  have : (pr h' a).1 = k := by rw [P a ha]; exact e
  rw [this, P2, eA] at eu
  exact ⟨ag, R.mst hj S M' eu B'⟩
theorem o_add {h : Hp} {xo : Nat} {m n : Nat → Nat} {O : Nat → List Nat} {A : AS} {C Q : Nat} {i k v : Int32} {K : Int64 → Hp → Prop} (R : RS h xo m n O A (C + 4) (Q + 19)) (sz : ∀ j, j < 3 → (A j).length ≤ 1463) (fin : ∀ h' n' O', RS h' xo m n' O' (sadd A i k v).1 C Q → Fr h h' → K (sadd A i k v).2 h') : wp_X0_add h (some xo) i k v K := by
  unfold wp_X0_add
  refine ⟨xo, rfl, s_X0_map R (fun j hj e _ => ⟨(fun q => by cases q), fun a q => ?_⟩) (fun e _ => ⟨fun _ => ?_, (fun a q => by cases q)⟩)⟩
  · cases q
    have es : sadd A i k v = (ufn A j (if aget (A j) k = none then A j ++ [(k, v)] else ause j (A j) k), tld (aget (A j) k)) := by unfold sadd; rw [e]
    rw [es] at fin
    refine s_valueOf (R.rm (by omega) (by omega)) (fun b h1 N1 kb e1 c1 c2 _ => s_valueOf ((R.nws N1 (C' := C + 3) (Q' := Q + 18) (by omega) (by omega)).rm (by omega) (by omega)) (fun b2 h2 N2 kb2 e2 c3 c4 _ => ?_))
    have R2 : RS h2 xo m n O A (C + 2) (Q + 17) := R.nws (N1.trans N2) (by omega) (by omega)
    have f2 := (N1.trans N2).fr
    have b0 : kd h1 b ≠ 0 := by omega
    have kb' : kd h2 b = 4 ∨ kd h2 b = 60 := by rw [(N2.1.1 b b0).1]; exact kb
    have eb : it h2 23 b = k := by rw [(N2.2 23 b b0).2]; exact e1
    obtain ⟨M, V, eA⟩ := R2.2.2.1 j hj
    refine s_putIfAbsent M (by rw [R2.len hj]; exact sz j hj) kb' kb2 (R2.bud2 (C' := C) (Q' := Q) (c := 2) (q := 17) hj (Nat.le_refl _) (Nat.le_refl _)) (fun a ha e h' M' S P B' _ => ?_) (fun ne h' n' O' M' S P B' _ => ?_)
    · obtain ⟨ag, R', f'⟩ := R2.used hj ha (e.trans eb) M' S P B'
      rw [ag, if_neg (fun q => by cases q)] at fin
      unfold wp_X0_add_b31 wp_X0_add_b37
      exact told_val (M.ok a ha) f'.int (fun _ => fin h' _ _ R' (f2.trans f'))
    · have ag := pr_get0 ne
      rw [eA, eb] at ag
      rw [eA, eb, e2] at P
      rw [ag, if_pos rfl] at fin
      obtain ⟨R', f'⟩ := R2.mst hj S M' P B'
      unfold wp_X0_add_b31 wp_X0_add_b37
      exact told_none (fun _ => fin h' _ _ R' (f2.trans f'))
  · have es : sadd A i k v = (A, 1099511627777) := by unfold sadd; rw [e]
    rw [es] at fin
    unfold wp_X0_add_b37
    exact fin h n O (R.mono (by omega) (by omega)) (Fr.refl h)
theorem o_get {h : Hp} {xo : Nat} {m n : Nat → Nat} {O : Nat → List Nat} {A : AS} {C Q : Nat} {i k : Int32} {K : Int64 → Hp → Prop} (R : RS h xo m n O A (C + 1) (Q + 1)) (fin : ∀ h' n' O', RS h' xo m n' O' (sget A i k).1 C Q → Fr h h' → K (sget A i k).2 h') : wp_X0_get h (some xo) i k K := by
  unfold wp_X0_get
  refine ⟨xo, rfl, s_X0_map R (fun j hj e _ => ⟨(fun q => by cases q), fun a q => ?_⟩) (fun e _ => ⟨fun _ => ?_, (fun a q => by cases q)⟩)⟩
  · cases q
    have es : sget A i k = (ufn A j (if aget (A j) k = none then A j else ause j (A j) k), tld (aget (A j) k)) := by unfold sget; rw [e]
    rw [es] at fin
    refine s_valueOf (R.rm (by omega) (by omega)) (fun b h1 N1 kb eb c1 c2 _ => ?_)
    have R2 : RS h1 xo m n O A C Q := R.nws N1 (by omega) (by omega)
    obtain ⟨M, V, eA⟩ := R2.2.2.1 j hj
    have f1 : ∀ a ∈ O j, keyI h1 a = it h1 23 b → ∀ h', MI h' (m j) (n j) (acc h1 (m j) (O j) a) → Mst h1 h' (m j) (O j) (acc h1 (m j) (O j) a) → (∀ y ∈ O j, pr h' y = pr h1 y) → Bud h' (n j) (acc h1 (m j) (O j) a) (C + oth (ptC h1 n O) j) (Q + oth (ptS h1 n O) j) → Ex h1 h' → wp_X0_get_b24 K h' (rf h1 2 a) := fun a ha e h' M' S P B' _ => by
      obtain ⟨ag, R', f'⟩ := R2.used hj ha (e.trans eb) M' S P B'
      rw [ag, if_neg (fun q => by cases q)] at fin
      unfold wp_X0_get_b24 wp_X0_get_b30
      exact told_val (M.ok a ha) f'.int (fun _ => fin h' _ _ R' (N1.fr.trans f'))
    have f0 : (∀ a ∈ O j, keyI h1 a ≠ it h1 23 b) → Ex h1 h1 → wp_X0_get_b24 K h1 none := fun ne _ => by
      have ag := pr_get0 ne
      rw [eA, eb] at ag
      rw [ag, if_pos rfl, ufn_self] at fin
      unfold wp_X0_get_b24 wp_X0_get_b30
      exact told_none (fun _ => fin h1 n O R2 N1.fr)
    have g := s_get (K := fun r h' => Ex h1 h' → wp_X0_get_b24 K h' r) M (R2.bud hj) f1 f0
    rcases M.kdm with w | w
    · exact Or.inl ⟨w, g.1 w⟩
    · exact Or.inr ⟨w, g.2 w⟩
  · have es : sget A i k = (A, 1099511627777) := by unfold sget; rw [e]
    rw [es] at fin
    unfold wp_X0_get_b30
    exact fin h n O (R.mono (by omega) (by omega)) (Fr.refl h)
theorem o_give {h : Hp} {xo : Nat} {m n : Nat → Nat} {O : Nat → List Nat} {A : AS} {C Q : Nat} {i k v : Int32} {K : Int64 → Hp → Prop} (R : RS h xo m n O A (C + 2) (Q + 2)) (fin : ∀ h' n' O', RS h' xo m n' O' (sgive A i k v).1 C Q → Fr h h' → K (sgive A i k v).2 h') : wp_X0_give h (some xo) i k v K := by
  unfold wp_X0_give
  refine ⟨xo, rfl, s_X0_map R (fun j hj e _ => ⟨(fun q => by cases q), fun a q => ?_⟩) (fun e _ => ⟨fun _ => ?_, (fun a q => by cases q)⟩)⟩
  · cases q
    have es : sgive A i k v = (ufn A j (if aget (A j) k = none then A j else ause j (A j) k), ((aget (A j) k).getD v).toInt64) := by unfold sgive; rw [e]
    rw [es] at fin
    refine s_valueOf (R.rm (by omega) (by omega)) (fun b h1 N1 kb e1 c1 c2 _ => s_valueOf ((R.nws N1 (C' := C + 1) (Q' := Q + 1) (by omega) (by omega)).rm (by omega) (by omega)) (fun b2 h2 N2 kb2 e2 c3 c4 _ => ?_))
    have R2 : RS h2 xo m n O A C Q := R.nws (N1.trans N2) (by omega) (by omega)
    have f2 := (N1.trans N2).fr
    have b0 : kd h1 b ≠ 0 := by omega
    have eb : it h2 23 b = k := by rw [(N2.2 23 b b0).2]; exact e1
    obtain ⟨M, V, eA⟩ := R2.2.2.1 j hj
    have f1 : ∀ a ∈ O j, keyI h2 a = it h2 23 b → ∀ h', MI h' (m j) (n j) (acc h2 (m j) (O j) a) → Mst h2 h' (m j) (O j) (acc h2 (m j) (O j) a) → (∀ y ∈ O j, pr h' y = pr h2 y) → Bud h' (n j) (acc h2 (m j) (O j) a) (C + oth (ptC h2 n O) j) (Q + oth (ptS h2 n O) j) → Ex h2 h' → wp_X0_give_b31 K h' (rf h2 2 a) := fun a ha e h' M' S P B' _ => by
      obtain ⟨ag, R', f'⟩ := R2.used hj ha (e.trans eb) M' S P B'
      rw [ag, if_neg (fun q => by cases q)] at fin
      unfold wp_X0_give_b31 wp_X0_give_b37
      exact told_val (M.ok a ha) f'.int (fun _ => fin h' _ _ R' (f2.trans f'))
    have f0 : (∀ a ∈ O j, keyI h2 a ≠ it h2 23 b) → Ex h2 h2 → wp_X0_give_b31 K h2 (some b2) := fun ne _ => by
      have ag := pr_get0 ne
      rw [eA, eb] at ag
      rw [ag, if_pos rfl, ufn_self] at fin
      unfold wp_X0_give_b31 wp_X0_give_b37 wp_X0_told wp_X0_told_b15 wp_J5_intValue
      refine ⟨(fun q => by cases q), fun a q => ⟨b2, rfl, fun _ _ => ?_⟩⟩
      rw [e2]
      exact fin h2 n O R2 f2
    have g := s_getOrDefault (d := some b2) (K := fun r h' => Ex h2 h' → wp_X0_give_b31 K h' r) M (R2.bud hj) f1 f0
    rcases M.kdm with w | w
    · exact Or.inl ⟨w, g.1 w⟩
    · exact Or.inr ⟨w, g.2 w⟩
  · have es : sgive A i k v = (A, 1099511627777) := by unfold sgive; rw [e]
    rw [es] at fin
    unfold wp_X0_give_b37
    exact fin h n O (R.mono (by omega) (by omega)) (Fr.refl h)
theorem o_rem {h : Hp} {xo : Nat} {m n : Nat → Nat} {O : Nat → List Nat} {A : AS} {C Q : Nat} {i k : Int32} {K : Int64 → Hp → Prop} (R : RS h xo m n O A (C + 2929) (Q + 24889)) (sz : ∀ j, j < 3 → (A j).length ≤ 1464) (fin : ∀ h' n' O', RS h' xo m n' O' (srem A i k).1 C Q → Fr h h' → K (srem A i k).2 h') : wp_X0_remove h (some xo) i k K := by
  unfold wp_X0_remove
  refine ⟨xo, rfl, s_X0_map R (fun j hj e _ => ⟨(fun q => by cases q), fun a q => ?_⟩) (fun e _ => ⟨fun _ => ?_, (fun a q => by cases q)⟩)⟩
  · cases q
    have es : srem A i k = (ufn A j (adel (A j) k), tld (aget (A j) k)) := by unfold srem; rw [e]
    rw [es] at fin
    refine s_valueOf (R.rm (by omega) (by omega)) (fun b h1 N1 kb eb c1 c2 _ => ?_)
    have R2 : RS h1 xo m n O A (C + 2928) (Q + 24888) := R.nws N1 (by omega) (by omega)
    obtain ⟨M, V, eA⟩ := R2.2.2.1 j hj
    refine s_remove M (by rw [R2.len hj]; exact sz j hj) (R2.bud2 (C' := C) (Q' := Q) (c := 2928) (q := 24888) hj (Nat.le_refl _) (Nat.le_refl _)) (fun a ha e h' O' M' S P B' _ => ?_) (fun ne _ => ?_)
    · have ag := pr_get1 M ha e
      rw [pr_del M ha, eA, e, eb] at P
      rw [eA, eb] at ag
      rw [ag] at fin
      obtain ⟨R', f'⟩ := R2.mst hj S M' P B'
      unfold wp_X0_remove_b24 wp_X0_remove_b30
      exact told_val (M.ok a ha) f'.int (fun _ => fin h' _ _ R' (N1.fr.trans f'))
    · have ag := pr_get0 ne
      rw [eA, eb] at ag
      rw [ag, adel_all (aget_none' ag), ufn_self] at fin
      unfold wp_X0_remove_b24 wp_X0_remove_b30
      exact told_none (fun _ => fin h1 n O (R2.mono (by omega) (by omega)) N1.fr)
  · have es : srem A i k = (A, 1099511627777) := by unfold srem; rw [e]
    rw [es] at fin
    unfold wp_X0_remove_b30
    exact fin h n O (R.mono (by omega) (by omega)) (Fr.refl h)
theorem o_take {h : Hp} {xo : Nat} {m n : Nat → Nat} {O : Nat → List Nat} {A : AS} {C Q : Nat} {i k v : Int32} {K : Int32 → Hp → Prop} (R : RS h xo m n O A (C + 2930) (Q + 24890)) (sz : ∀ j, j < 3 → (A j).length ≤ 1464) (fin : ∀ h' n' O', RS h' xo m n' O' (stake A i k v).1 C Q → Fr h h' → K (stake A i k v).2 h') : wp_X0_take h (some xo) i k v K := by
  unfold wp_X0_take
  refine ⟨xo, rfl, s_X0_map R (fun j hj e _ => ⟨(fun q => by cases q), fun a q => ?_⟩) (fun e _ => ⟨fun _ => ?_, (fun a q => by cases q)⟩)⟩
  · cases q
    have es : stake A i k v = (if aget (A j) k = some v then (ufn A j (adel (A j) k), 1) else (A, 0)) := by unfold stake; rw [e]
    rw [es] at fin
    refine s_valueOf (R.rm (by omega) (by omega)) (fun b h1 N1 kb e1 c1 c2 _ => s_valueOf ((R.nws N1 (C' := C + 2929) (Q' := Q + 24889) (by omega) (by omega)).rm (by omega) (by omega)) (fun b2 h2 N2 kb2 e2 c3 c4 _ => ?_))
    have R2 : RS h2 xo m n O A (C + 2928) (Q + 24888) := R.nws (N1.trans N2) (by omega) (by omega)
    have f2 := (N1.trans N2).fr
    have b0 : kd h1 b ≠ 0 := by omega
    have eb : it h2 23 b = k := by rw [(N2.2 23 b b0).2]; exact e1
    obtain ⟨M, V, eA⟩ := R2.2.2.1 j hj
    refine s_remove_2 M (by rw [R2.len hj]; exact sz j hj) (R2.bud2 (C' := C) (Q' := Q) (c := 2928) (q := 24888) hj (Nat.le_refl _) (Nat.le_refl _)) (fun a ha e ev h' O' M' S P B' _ => ?_) (fun ne _ => ?_)
    · have ag := pr_get1 M ha e
      rw [pr_del M ha, eA, e, eb] at P
      rw [eA, eb, ev, e2] at ag
      rw [if_pos ag] at fin
      obtain ⟨R', f'⟩ := R2.mst hj S M' P B'
      unfold wp_X0_take_b25 wp_X0_take_b33
      exact ⟨(fun w => by cases w), fun _ => ⟨Or.inr rfl, fin h' _ _ R' (f2.trans f')⟩⟩
    · have ag : ¬ aget (A j) k = some v := fun w => by
        have w := aget_mem w
        rw [← eA] at w
        obtain ⟨a, ha, w⟩ := List.mem_map.mp w
        have w1 : keyI h2 a = k := congrArg Prod.fst w
        have w2 : valI h2 a = v := congrArg Prod.snd w
        exact ne a ha (w1.trans eb.symm) (w2.trans e2.symm)
      rw [if_neg ag] at fin
      unfold wp_X0_take_b25 wp_X0_take_b32 wp_X0_take_b33
      exact ⟨fun _ => ⟨Or.inl rfl, fin h2 n O (R2.mono (by omega) (by omega)) f2⟩, fun w => absurd rfl w⟩
  · have es : stake A i k v = (A, 0) := by unfold stake; rw [e]
    rw [es] at fin
    unfold wp_X0_take_b32 wp_X0_take_b33
    exact ⟨Or.inl rfl, fin h n O (R.mono (by omega) (by omega)) (Fr.refl h)⟩
theorem o_size {h : Hp} {xo : Nat} {m n : Nat → Nat} {O : Nat → List Nat} {A : AS} {C Q : Nat} {i : Int32} {K : Int32 → Hp → Prop} (R : RS h xo m n O A C Q) (fin : K (ssize A i) h) : wp_X0_size h (some xo) i K := by
  unfold wp_X0_size
  refine ⟨xo, rfl, s_X0_map R (fun j hj e _ => ⟨(fun q => by cases q), fun a q => ?_⟩) (fun e _ => ⟨fun _ => ?_, (fun a q => by cases q)⟩)⟩
  · cases q
    have es : ssize A i = nI (A j).length := by unfold ssize; rw [e]
    rw [es, ← R.len hj, ← (R.2.2.1 j hj).1.2.1] at fin
    unfold wp_J1_size wp_X0_size_b18
    exact ⟨m j, rfl, fun _ => fin⟩
  · have es : ssize A i = -1 := by unfold ssize; rw [e]
    rw [es] at fin
    exact fin
theorem o_clear {h : Hp} {xo : Nat} {m n : Nat → Nat} {O : Nat → List Nat} {A : AS} {C Q : Nat} {i : Int32} {K : Int32 → Hp → Prop} (R : RS h xo m n O A C Q) (sz : ∀ j, j < 3 → (A j).length ≤ 1464) (fin : ∀ h' n' O', RS h' xo m n' O' (sclear A i).1 C Q → Fr h h' → K (sclear A i).2 h') : wp_X0_clear h (some xo) i K := by
  unfold wp_X0_clear
  refine ⟨xo, rfl, s_X0_map R (fun j hj e _ => ⟨(fun q => by cases q), fun a q => ?_⟩) (fun e _ => ⟨fun _ => ?_, (fun a q => by cases q)⟩)⟩
  · cases q
    have es : sclear A i = (ufn A j [], nI (A j).length) := by unfold sclear; rw [e]
    rw [es, ← R.len hj, ← (R.2.2.1 j hj).1.2.1] at fin
    unfold wp_J1_size wp_X0_clear_b16 wp_X0_clear_b21
    obtain ⟨M, V, eA⟩ := R.2.2.1 j hj
    have g := s_clear (K := fun h' => Ex h h' → K (it h 15 (m j)) h') M (by rw [R.len hj]; exact sz j hj) (R.bud hj) (fun h' M' S B' _ => by
      obtain ⟨R', f'⟩ := R.mst (A' := []) hj S M' rfl B'
      exact fin h' _ _ R' f')
    refine ⟨m j, rfl, fun _ => ?_⟩
    rcases M.kdm with w | w
    · exact Or.inl ⟨m j, rfl, w, g.1 w⟩
    · exact Or.inr ⟨m j, rfl, w, g.2 w⟩
  · have es : sclear A i = (A, -1) := by unfold sclear; rw [e]
    rw [es] at fin
    exact fin h n O R (Fr.refl h)
theorem o_has {h : Hp} {xo : Nat} {m n : Nat → Nat} {O : Nat → List Nat} {A : AS} {C Q : Nat} {i w v : Int32} {K : Int32 → Hp → Prop} (R : RS h xo m n O A (C + 1) (Q + 1)) (sz : ∀ j, j < 3 → (A j).length ≤ 1464) (fin : ∀ h', RS h' xo m n O A C Q → Fr h h' → K (shas A i w v) h') : wp_X0_has h (some xo) i w v K := by
  unfold wp_X0_has
  refine ⟨xo, rfl, s_X0_map R (fun j hj e _ => ⟨(fun q => by cases q), fun a q => ?_⟩) (fun e _ => ⟨fun _ => ?_, (fun a q => by cases q)⟩)⟩
  · cases q
    have es : shas A i w v = (if w = 0 then (if aget (A j) v = none then 0 else 1) else if w = 1 then (if (A j).any (fun p => decide (p.2 = v)) then 1 else 0) else 0) := by unfold shas; rw [e]
    rw [es] at fin
    refine s_valueOf (R.rm (by omega) (by omega)) (fun b h1 N1 kb eb c1 c2 _ => ?_)
    have R2 : RS h1 xo m n O A C Q := R.nws N1 (by omega) (by omega)
    obtain ⟨M, V, eA⟩ := R2.2.2.1 j hj
    have fin := fin h1 R2 N1.fr
    refine ⟨fun w0 => ?_, fun w0 => ?_⟩
    · rw [if_neg w0] at fin
      unfold wp_X0_has_b34
      refine ⟨fun w1 => ?_, fun w1 => ?_⟩
      · rw [if_neg w1] at fin
        unfold wp_X0_has_b53 wp_X0_has_b54
        exact ⟨Or.inl rfl, fin⟩
      · rw [if_pos w1] at fin
        have g := s_containsValue (c := b) (K := fun r h' => Ex h1 h' → wp_X0_has_b46 K h' r) M (by rw [R2.len hj]; exact sz j hj) (fun a ha ea _ => by
          have : (A j).any (fun p => decide (p.2 = v)) = true := by
            rw [← eA]
            exact List.any_eq_true.mpr ⟨pr h1 a, List.mem_map.mpr ⟨a, ha, rfl⟩, decide_eq_true (ea.trans eb)⟩
          rw [if_pos this] at fin
          unfold wp_X0_has_b46 wp_X0_has_b49 wp_X0_has_b54
          exact ⟨(fun z => by cases z), fun _ => ⟨Or.inr rfl, fin⟩⟩) (fun ne _ => by
          have : ¬ (A j).any (fun p => decide (p.2 = v)) = true := fun z => by
            rw [← eA] at z
            obtain ⟨p, hp, z⟩ := List.any_eq_true.mp z
            obtain ⟨a, ha, rfl⟩ := List.mem_map.mp hp
            exact ne a ha ((of_decide_eq_true z : valI h1 a = v).trans eb.symm)
          rw [if_neg this] at fin
          unfold wp_X0_has_b46 wp_X0_has_b53 wp_X0_has_b54
          exact ⟨fun _ => ⟨Or.inl rfl, fin⟩, fun z => absurd rfl z⟩)
        rcases M.kdm with z | z
        · exact Or.inl ⟨m j, rfl, z, g.1 z⟩
        · exact Or.inr ⟨m j, rfl, z, g.2 z⟩
    · rw [if_pos w0] at fin
      refine s_containsKey M (fun a ha ea _ => ?_) (fun ne _ => ?_)
      · have ag := pr_get1 M ha (ea.trans eb)
        rw [eA] at ag
        rw [if_neg (fun q => by rw [ag] at q; cases q)] at fin
        unfold wp_X0_has_b31 wp_X0_has_b49 wp_X0_has_b54
        exact ⟨fun _ => ⟨Or.inr rfl, fin⟩, (fun z => by cases z)⟩
      · have ag := pr_get0 ne
        rw [eA, eb] at ag
        rw [if_pos ag] at fin
        unfold wp_X0_has_b31 wp_X0_has_b34 wp_X0_has_b53 wp_X0_has_b54
        exact ⟨fun z => absurd rfl z, fun _ => ⟨fun _ => ⟨Or.inl rfl, fin⟩, fun z => by rw [w0] at z; cases z⟩⟩
  · have es : shas A i w v = 0 := by unfold shas; rw [e]
    rw [es] at fin
    exact fin h (R.mono (by omega) (by omega)) (Fr.refl h)
