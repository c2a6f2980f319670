set_option maxRecDepth 100000
/-! ===== System.arraycopy beyond a row's end ===== -/
theorem znat_note {tb : Tables} {e : Env} {below : List Frame} {s target : State} {g : JFrame} {c : Code} (h : At s g.method c below) {m : MethodId} {meth : Method} {k : Class} {row : NativeRow} {args : Array Value} (acts : List Action)
    (hk : s.vm.classes[m.cls]? = some k) (hx : k.methods[m.idx]? = some meth) (hboot : k.loader = none) (hnat : meth.isNative = true) (hc : meth.code = none) (hl : meth.locks = false) (hrow : NativeRow.find? tb.natives k.name meth.name meth.desc = some row)
    (hroom : e.platform.stackFull (((s.setTop g).threads[(s.setTop g).cur]?).getD { frames := [] }) (s.setTop g).frames (nativeFrameWords k.name meth.name (operandWords args.toList)) = false) {cls : String} {msg : Option String}
    (hw : ∀ E : CtlPost, (∀ acts', E (.throwNew cls msg) acts' ((s.setTop g).pushFrame (.native { method := m, args := seenByNative meth args, locked := none }))) → wp (row.sem (seenByNative meth args)) (fun _ _ _ _ => False) E e false [] ((s.setTop g).pushFrame (.native { method := m, args := seenByNative meth args, locked := none })))
    (hrest : Steps tb e below (((s.setTop g).pushFrame (.native { method := m, args := seenByNative meth args, locked := none })).pushFrame (.throwNew cls msg none)) target) : Steps tb e below (doInvoke e (s.setTop g) acts m args).1 target := by
  have hm : (s.setTop g).vm.method? m = some meth := by
    show s.vm.method? m = some meth
    simp [Vm.method?, hk, hx]
  have hroom' : e.platform.stackFull (((s.setTop g).threads[(s.setTop g).cur]?).getD { frames := [] }) (s.setTop g).frames (nativeFrameWords ((((s.setTop g).vm.classes[m.cls]?).map (·.name)).getD "") meth.name (operandWords args.toList)) = false := by
    have e1 : (((s.setTop g).vm.classes[m.cls]?).map (·.name)).getD "" = k.name := by
      show ((s.vm.classes[m.cls]?).map (·.name)).getD "" = k.name
      simp [hk]
    rw [e1]; exact hroom
  rw [(Fast.doInvoke_native (s := s.setTop g) (e := e) (acts := acts) (args := args) hm hnat hc hl hroom').1]
  have hfe := frames_entered (g := g) h.top (.native { method := m, args := seenByNative meth args, locked := none })
  obtain ⟨mid, hmid⟩ := h.above
  refine Steps.head ⟨h.running, by simpa using h.runnable, by simpa using h.alone⟩ ⟨.native { method := m, args := seenByNative meth args, locked := none } :: .java g :: mid, by rw [hfe, hmid]; rfl, by simp, by simp⟩ ?_
  rw [stepThread_native (f := { method := m, args := seenByNative meth args, locked := none }) (k := k) (x := meth) (row := row) hfe hk hx hboot hrow rfl]
  have hw1 : wpRun (row.sem (seenByNative meth args)) (fun _ _ _ => False) (fun x s₁ _ => x = .throwNew cls msg ∧ s₁ = (s.setTop g).pushFrame (.native { method := m, args := seenByNative meth args, locked := none })) e ((s.setTop g).pushFrame (.native { method := m, args := seenByNative meth args, locked := none })) := hw _ (fun _ => ⟨rfl, rfl⟩)
  have hw2 := (wpRun_iff_run _ _ _ _ _).mp hw1
  cases hr : (row.sem (seenByNative meth args)).run e ((s.setTop g).pushFrame (.native { method := m, args := seenByNative meth args, locked := none })) with
  | ok v s₁ acts₁ => rw [hr] at hw2; exact hw2.elim
  | ctl x s₁ acts₁ =>
    rw [hr] at hw2
    cases x <;> first
      | exact hw2.elim
      | (obtain ⟨h1, h2⟩ := hw2; cases h1; subst h2; exact hrest)
      | (obtain ⟨h1, -⟩ := hw2; cases h1)
