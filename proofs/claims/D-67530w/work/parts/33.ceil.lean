/-! MATH.CEIL: the machine's own entry for it, which goes on to StrictMath.ceil -/
set_option maxRecDepth 100000
def crow : NativeRow := (NativeRow.find? Native.java_lang_Math.nans.rows "java/lang/Math" "ceil" "(D)D").get (by decide +kernel)
theorem crow_in (p : Program) : NativeRow.find? p.tables.natives "java/lang/Math" "ceil" "(D)D" = some crow := by cases p <;> rfl
theorem run_ctl {t : Sem (Option Value)} {e : Env} {S : State} {x0 : Control} (hw : wpRun t (fun _ _ _ => False) (fun y s2 _ => y = x0 ∧ s2 = S) e S) : ∃ acts, t.run e S = .ctl x0 S acts := by
  have hw := (wpRun_iff_run _ _ _ _ _).mp hw
  cases hr : t.run e S with
  | ok v s2 acts => rw [hr] at hw; exact hw.elim
  | ctl y s2 acts =>
    rw [hr] at hw
    have h2 : y = x0 ∧ s2 = S := by cases y <;> first | exact hw | exact hw.elim
    exact ⟨acts, by rw [h2.1, h2.2]⟩
theorem run_ok {t : Sem (Option Value)} {e : Env} {S : State} {v0 : Option Value} (hw : wpRun t (fun v s2 _ => v = v0 ∧ s2 = S) (fun _ _ _ => False) e S) : ∃ acts, t.run e S = .ok v0 S acts := by
  have hw := (wpRun_iff_run _ _ _ _ _).mp hw
  cases hr : t.run e S with
  | ok v s2 acts => rw [hr] at hw; exact ⟨acts, by rw [hw.1, hw.2]⟩
  | ctl y s2 acts => rw [hr] at hw; cases y <;> exact hw.elim
theorem crow_goes (b : UInt64) (e : Env) (S : State) {cS : ClassId} {kS : Class} {i : Nat} (hf : S.vm.findClass "java/lang/StrictMath" = some cS) (hk : S.vm.classes[cS]? = some kS) (hi : kS.init = .initialized) (hm : kS.findMethod "ceil" "(D)D" = some i) : ∃ acts, (crow.sem #[.double b]).run e S = .ctl (.call ⟨cS, i⟩ #[.double b] 1 #[]) S acts := by
  have hs : crow.sem #[.double b] = (do
      let y ← classNamed "java/lang/StrictMath"
      ensureInit y
      let some j := (← theClass y).findMethod "ceil" "(D)D" | modelBug ("StrictMath lacks " ++ "ceil")
      callThen ⟨y, j⟩ #[.double b] 1 #[]) := rfl
  refine run_ctl ?_
  rw [hs]
  simp [jvm, wpRun, W.classNamed_ready hf, W.ensureInit_ready ⟨kS, hk, hi⟩, theClass, callThen, hk, hm]
  exact ⟨rfl, rfl, rfl, rfl⟩
theorem crow_ends {r : UInt64} (hn : vf_n64 r) (e : Env) (S : State) : ∃ acts, (crow.resume 1 #[] (.returned (some (.double r)))).run e S = .ok (some (.double r)) S acts := by
  have hs : crow.resume 1 #[] (.returned (some (.double r))) = (do
      let w ← anyNaN64 r
      mark "nat.java_lang_Math.ceil"
      Pure.pure (some (.double w))) := rfl
  refine run_ok ?_
  rw [hs]
  unfold vf_n64 at hn
  simp [jvm, wpRun, anyNaN64, hn]
