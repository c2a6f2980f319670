set_option maxRecDepth 100000
/-- the words that give a method's code and handlers -/
def ZCode (y : MethodName) (cc : ByteArray) (nL : Nat) (ret : Option FieldType) (tb : List (Nat × Nat × Nat × Nat)) : Prop := (tb = [] ∧ Cond.code y cc nL ret ∈ lw_all) ∨ Cond.codeWith y cc nL ret tb ∈ lw_all
theorem ZCode.spec {G : ZG} {s : State} {y : MethodName} {cc : ByteArray} {nL : Nat} {ret : Option FieldType} {tb : List (Nat × Nat × Nat × Nat)} {m : MethodId} (h : ZCode y cc nL ret tb) (K : KK G s) (hn : s.methodNamed? y = some m) :
    ∃ meth c, s.vm.method? m = some meth ∧ meth.code = some c ∧ c.code = cc ∧ c.maxLocals = nL ∧ meth.sig.returnType = ret ∧ meth.locks = false ∧ c.exceptionTable.toList = tableOf tb ∧ parseMethodDescriptor y.desc = some meth.sig := by
  rcases h with ⟨rfl, h⟩ | h
  · obtain ⟨meth, c, h1, h2, h3, h4, h5, h6, h7, h8⟩ := Cond.code_spec hn (K.1 _ h #[])
    refine ⟨meth, c, h1, h2, h3, h4, h5, h6, ?_, h8⟩
    have e : c.exceptionTable = #[] := by simpa using h7
    rw [e]
    rfl
  · obtain ⟨m', meth, c, h0, h1, h2, h3, h4, h5, h6, h7, h8⟩ := Cond.codeWith_spec (K.1 _ h #[])
    cases hn.symm.trans h0
    exact ⟨meth, c, h1, h2, h3, h4, h6, h7, by rw [← h5, table_eq], h8⟩
theorem ZCode.named {G : ZG} {s : State} {y : MethodName} {cc : ByteArray} {nL : Nat} {ret : Option FieldType} {tb : List (Nat × Nat × Nat × Nat)} (h : ZCode y cc nL ret tb) (K : KK G s) : ∃ m, s.methodNamed? y = some m := by
  rcases h with ⟨rfl, h⟩ | h
  · exact Cond.code_named (K.1 _ h #[])
  · obtain ⟨m', meth, c, h0, -⟩ := Cond.codeWith_spec (K.1 _ h #[])
    exact ⟨m', h0⟩
section
variable {p : Program} {l : Launch} {e : Env} {R : Room} {s : State} {m : MethodId} {args : Array Value} {below : List Frame} {meth : Method} {c : Code} {T : State} {locs : List Loc} {cells slots : Nat} {G : ZG}
/-- the callee's walk, from the invocation on -/
theorem zcall_in (X : Stand p l e R s m args below meth c T locs cells slots) (hx : p.tables.exec = Jvm.exec) (K : KK G s) {g : JFrame} (hg : g.method = m) (hsize : g.locals.size = c.maxLocals) {ig : Instr} {len : Nat} (hdg : decode c.code g.pc = .ok (ig, len))
    {y : MethodName} {cc : ByteArray} {nL : Nat} {ret : Option FieldType} {tb : List (Nat × Nat × Nat × Nat)} {d : Nat} {mk : MethodId} (hn : s.methodNamed? y = some mk) (hcode : ZCode y cc nL ret tb) (hy : plainName y.cls = true) {vs : List Value} {σ : ZT} {o : Outcome} {σ' : ZT}
    (hM : ZM l G y cc nL ret tb d vs σ o σ') (hP : HP G σ T.heap) (hfr : d + 1 ≤ R.frames) (hlo : 11060 + 60 * d ≤ R.locals) (hw : 2 * g.monitorRoom + (g.stack.map fun v => v.category).sum + (nL + 11) ≤ 60) (hce : cells + zbc σ ≤ R.cells) (hsl : slots + zbs σ ≤ R.slots) :
    ∃ t : State, (∀ acts, Steps p.tables e below (doInvoke e (T.setTop g) acts mk vs.toArray).1 t) ∧ Ended t (.java g :: below) o ∧ (T.calling g mk vs.toArray).WarmedH t.vm ∧ HP G σ' t.heap ∧ zbc σ' ≤ zbc σ ∧ zbs σ' ≤ zbs σ ∧ ∃ L : List Loc, (T.calling g mk vs.toArray).sameButNew ({ t with vm := (T.calling g mk vs.toArray).vm } : State) L (zbc σ - zbc σ') (zbs σ - zbs σ') ∧ ∀ q ∈ L, gb G ≤ q.base := by
  obtain ⟨methk, ck, m1, m2, m3, m4, m5, m6, m7, m8⟩ := hcode.spec K hn
  have hal := X.warmed.alike
  have hmk : T.vm.method? mk = some methk := by rw [hal.method?]; exact m1
  have hpk : T.plainMethod mk := X.warmed.plainAt fun k hk => by
    obtain ⟨k', hk', hkn⟩ := className_of_methodNamed hn
    cases hk.symm.trans hk'
    rw [hkn]; exact hy
  obtain ⟨Y, hin⟩ := X.into hg hsize hdg vs.toArray (R' := { frames := R.frames - 1, cells := zbc σ, slots := zbs σ, locals := R.locals - 60 }) hmk m2 m6 hpk (by show R.frames - 1 + 1 ≤ _; omega) (by show _ + (ck.maxLocals + 11) + (R.locals - 60) ≤ _; rw [m4]; omega) hce hsl
  have hWk : s.WarmedH (T.calling g mk vs.toArray).vm := X.warmed
  have Kk : KK G (T.calling g mk vs.toArray) := K.moved hWk
  have hown : (T.calling g mk vs.toArray).vm.findClass y.cls = some mk.cls := by
    have h0 := findClass_of_methodNamed hn
    rw [← hal.findClass] at h0
    exact h0
  have Cc : ZC G y.cls y.name cc nL ret tb (p, e, { frames := R.frames - 1, cells := zbc σ, slots := zbs σ, locals := R.locals - 60 }, T.calling g mk vs.toArray, mk, vs.toArray, .java g :: below, methk, ck, zbc σ, zbs σ) d :=
    ⟨hx, m3, m4, hown, Kk, m6, m5, m7, by show d ≤ R.frames - 1; omega, by show 11000 + 60 * d ≤ R.locals - 60; omega, Nat.le_refl _, Nat.le_refl _, (name_of_methodNamed hn m1).1⟩
  obtain ⟨t, ht, -, q2, q3, q4, q5, q6, L, q7, q8⟩ := hM _ Cc rfl rfl rfl hP ((T.setTop g).pushFrame (.java (entryFrame mk vs.toArray ck.maxLocals))) rfl Y
  refine ⟨t, fun acts => ?_, q2, q3, q4, q5, q6, L, q7, q8⟩
  rw [hin acts]
  have ht : Steps p.tables e (.java g :: below) (((T.setTop g).pushFrame (.java (entryFrame mk vs.toArray ck.maxLocals))).setTop (entryFrame mk vs.toArray nL)) t := ht
  rw [← m4] at ht
  exact Steps.weaken (mid := [.java g]) ht
end
section
variable {l : Launch} {G : ZG} {own nm : String} {cc : ByteArray} {nL : Nat} {ret : Option FieldType} {tb : List (Nat × Nat × Nat × Nat)} {X : ZX} {d : Nat} {Q : State → Prop} {σ σ' : ZT} {pc q : Nat} {lv : List (Nat × Value)} {st rest : List Value}
variable {y : MethodName} {cc' : ByteArray} {nL' : Nat} {ret' : Option FieldType} {tb' : List (Nat × Nat × Nat × Nat)} {d' : Nat} {vs : List Value}
/-- an invocation's first step: the method is found, the arguments leave the stack -/
def ZInv (l : Launch) (X : ZX) (y : MethodName) (vs : List Value) (pc : Nat) (st rest : List Value) (H : Heap) (ls : Array Slot) : Prop :=
  ∀ (T : State) (locs : List Loc) (cells slots : Nat), T.heap = H → Stand (xp X) l (xe X) (xR X) (xs X) (xm X) (xa X) (xb X) (xmt X) (xc X) T locs cells slots → ∃ (mk : MethodId) (vm₁ : Vm), (xs X).methodNamed? y = some mk ∧ Stand (xp X) l (xe X) (xR X) (xs X) (xm X) (xa X) (xb X) (xmt X) (xc X) (T.setVm vm₁) locs cells slots ∧
    ∀ target, (∀ acts, Steps (xp X).tables (xe X) (xb X) (doInvoke (xe X) ((T.setVm vm₁).setTop (F0 (xm X) pc ls rest)) acts mk vs.toArray).1 target) → Steps (xp X).tables (xe X) (xb X) (T.setTop (F0 (xm X) pc ls st)) target
theorem zcall_go (C : ZC G own nm cc nL ret tb X d) {v : Option Value} (hM : ZM l G y cc' nL' ret' tb' d' vs σ (.returned v) σ') (hd' : d' < d) (hy : plainName y.cls = true) (hcode : ZCode y cc' nL' ret' tb') {ig : Instr} (hdg : decode cc pc = .ok (ig, 3)) (hw : (rest.map fun v => v.category).sum + (nL' + 11) ≤ 60)
    (inv : ∀ (H : Heap) (ls : Array Slot), HP G σ H → ZInv l X y vs pc st rest H ls) (hq : pc + 3 = q) (kk : ZW l G nL X Q σ' q lv (v.toList ++ rest)) : ZW l G nL X Q σ pc lv st := by
  subst hq
  intro H locs ls hP hL h1 h2 hl
  intro T hT X0
  obtain ⟨mk, vm₁, hn, X1, hst⟩ := inv H ls hP T locs _ _ hT X0
  have hfr := C.fr
  have hlo := C.lo
  have hce := C.ce
  have hsl := C.sl
  have hsz : (F0 (xm X) pc ls rest).locals.size = (xc X).maxLocals := by rw [C.ml]; exact hl.1
  have hdg' : decode (xc X).code (F0 (xm X) pc ls rest).pc = .ok (ig, 3) := by rw [C.b]; exact hdg
  obtain ⟨t, t1, t2, t3, t4, t5, t6, L, t7, t8⟩ := zcall_in X1 C.x C.K (g := F0 (xm X) pc ls rest) rfl hsz hdg' hn hcode hy hM (by rw [← hT] at hP; exact hP) (by omega) (by omega) (by show 2 * 0 + (rest.map fun v => v.category).sum + _ ≤ 60; omega) (by omega) (by omega)
  obtain ⟨T', X', -, -, e⟩ := X1.outOf (g := F0 (xm X) pc ls rest) rfl hdg' t2 t3 t7
  have hP' : HP G σ' T'.heap := by
    have e2 : t.heap = T'.heap := by rw [e]; rfl
    rw [← e2]; exact t4
  have k1 := kk T'.heap (locs ++ L) ls hP' (t_lL hL t8) (by omega) (by omega) hl
  rw [show xbc X - zbc σ' = xbc X - zbc σ + (zbc σ - zbc σ') by omega, show xbs X - zbs σ' = xbs X - zbs σ + (zbs σ - zbs σ') by omega] at k1
  obtain ⟨t', a1, b1⟩ := k1 T' rfl X'
  refine ⟨t', hst _ (fun acts => (t1 acts).trans ?_), b1⟩
  rw [e]
  exact a1
/-- the callee throws: the note lies on the frame -/
theorem zcall_goT (C : ZC G own nm cc nL ret tb X d) {x : Nat} (hM : ZM l G y cc' nL' ret' tb' d' vs σ (.threw x) σ') (hd' : d' < d) (hy : plainName y.cls = true) (hcode : ZCode y cc' nL' ret' tb') {ig : Instr} (hdg : decode cc pc = .ok (ig, 3)) (hw : (rest.map fun v => v.category).sum + (nL' + 11) ≤ 60)
    (inv : ∀ (H : Heap) (ls : Array Slot), HP G σ H → ZInv l X y vs pc st rest H ls)
    (kk : ∀ (T : State) (locs : List Loc) (ls : Array Slot), HP G σ' T.heap → (∀ q ∈ locs, gb G ≤ q.base) → zbc σ' ≤ xbc X → zbs σ' ≤ xbs X → lv_has ls nL lv → Stand (xp X) l (xe X) (xR X) (xs X) (xm X) (xa X) (xb X) (xmt X) (xc X) T locs (xbc X - zbc σ') (xbs X - zbs σ') →
      ∃ t, Steps (xp X).tables (xe X) (xb X) ((T.setTop (F0 (xm X) pc ls rest)).pushFrame (.throwing x)) t ∧ Q t) : ZW l G nL X Q σ pc lv st := by
  intro H locs ls hP hL h1 h2 hl
  intro T hT X0
  obtain ⟨mk, vm₁, hn, X1, hst⟩ := inv H ls hP T locs _ _ hT X0
  have hfr := C.fr
  have hlo := C.lo
  have hce := C.ce
  have hsl := C.sl
  have hsz : (F0 (xm X) pc ls rest).locals.size = (xc X).maxLocals := by rw [C.ml]; exact hl.1
  have hdg' : decode (xc X).code (F0 (xm X) pc ls rest).pc = .ok (ig, 3) := by rw [C.b]; exact hdg
  obtain ⟨t, t1, t2, t3, t4, t5, t6, L, t7, t8⟩ := zcall_in X1 C.x C.K (g := F0 (xm X) pc ls rest) rfl hsz hdg' hn hcode hy hM (by rw [← hT] at hP; exact hP) (by omega) (by omega) (by show 2 * 0 + (rest.map fun v => v.category).sum + _ ≤ 60; omega) (by omega) (by omega)
  obtain ⟨T', X', -, -, e⟩ := X1.outOfThrown (g := F0 (xm X) pc ls rest) rfl t2 t3 t7
  have hP' : HP G σ' T'.heap := by
    have e2 : t.heap = T'.heap := by rw [e]; rfl
    rw [← e2]; exact t4
  rw [show xbc X - zbc σ + (zbc σ - zbc σ') = xbc X - zbc σ' by omega, show xbs X - zbs σ + (zbs σ - zbs σ') = xbs X - zbs σ' by omega] at X'
  obtain ⟨t', a1, b1⟩ := kk T' (locs ++ L) ls hP' (t_lL hL t8) (by omega) (by omega) hl X'
  refine ⟨t', hst _ (fun acts => (t1 acts).trans ?_), b1⟩
  rw [e]
  exact a1
/-! how a method is found -/
theorem HP.recv {H : Heap} (K : KK G (xs X)) (hP : HP G σ H) {b ci N : Nat} {Cn : String} {T : u_T} (hk : ZKl ci Cn T N) (hK : zK σ b = ci + 1) : ∃ cell : Cell, H[b]? = some cell ∧ cell.vm.isStatics = false ∧ (xs X).vm.findClass Cn = some cell.cls ∧ cell.vm = .none := by
  obtain ⟨r, hr1, cell, q1, q2, q3, -⟩ := hP.obj hk.1 hK
  have hr : r = (Cn, T, N) := Option.some.inj (hr1.symm.trans hk.2.1)
  subst hr
  exact ⟨cell, q1, by rw [q3]; rfl, by rw [q2]; exact (K.2.1.1 ci _ hk.2.1).2.1, q3⟩
/-- a call through an object of the class Cn: the method y of its own -/
def ZV (own : String) (idx : Nat) (Cn : String) (y : MethodName) (n : Nat) : Prop := (Cond.methodLink own idx y ∈ lw_all ∨ ∃ host, Cond.methodLinkNest own idx y host ∈ zNw) ∧ Cond.instanceMethod y ∈ lw_all ∧ Cond.selects Cn y y ∈ lw_all ∧ (y.cls ≠ "java/lang/invoke/MethodHandle" ∧ y.cls ≠ "java/lang/invoke/VarHandle") ∧ (parseMethodDescriptor y.desc).map (fun d => d.parameters.length) = some n
theorem zpar {y : MethodName} {n : Nat} {sg : MethodDescriptor} (h : (parseMethodDescriptor y.desc).map (fun d => d.parameters.length) = some n) (hs : parseMethodDescriptor y.desc = some sg) : n = sg.parameters.length := by
  rw [hs] at h
  exact (Option.some.inj h).symm
theorem zinv_V (C : ZC G own nm cc nL ret tb X d) {idx ci N b : Nat} {Cn : String} {Tf : u_T} {As : List Value} (hk : ZKl ci Cn Tf N) (V : ZV own idx Cn y As.length) (hcode : ZCode y cc' nL' ret' tb') (hK : zK σ b = ci + 1) (hd : decode cc pc = .ok (.invokevirtual idx, 3)) (hs : st = As.reverse ++ .ref b :: rest) : ∀ (H : Heap) (ls : Array Slot), HP G σ H → ZInv l X y (.ref b :: As) pc st rest H ls := by
  intro H ls hP T locs cells slots hT X0
  obtain ⟨hl, hin, hse, hy, hpar⟩ := V
  obtain ⟨cell, f1, f2, f3, -⟩ := hP.recv C.K hk hK
  obtain ⟨mk, methM, hnamed, hmethM, hstM, habM⟩ := Cond.instanceMethod_spec (C.w hin)
  obtain ⟨methM', cM, hmethM', -, -, -, -, -, -, hsigM⟩ := hcode.spec C.K hnamed
  cases hmethM.symm.trans hmethM'
  obtain ⟨c2, r2, m2, q1, q2, q3, q4, kP, hkP, hkPi⟩ := Cond.selects_spec (C.w hse)
  cases f3.symm.trans q1
  cases (State.methodFound?_of_named hnamed hy).symm.trans q2
  cases hnamed.symm.trans q3
  have hselP : selectMethod (xe X).platform (xs X).vm cell.cls mk = .method mk := by rw [Launch.admits_selectMethod X0.admits]; exact q4
  have hlen := zpar hpar hsigM
  rcases hl with hl | ⟨host, hl⟩
  · obtain ⟨vm₁, X₁, hstep₁⟩ := X0.invokevirtual C.x C.ow (C.w hl) hnamed hmethM hstM hkP hkPi hy (a := b) (cell := cell) (by rw [hT]; exact f1)
      (fun z h => by rw [h] at f2; cases f2) hselP hmethM habM hkP hkPi (g := F0 (xm X) pc ls st) rfl (argsL := As) (rest := rest) hlen hs (by rw [C.b]; exact hd)
    exact ⟨mk, vm₁, hnamed, X₁, hstep₁⟩
  · obtain ⟨vm₁, X₁, hstep₁⟩ := X0.invokevirtualNest C.x C.ow (va_Nw.use rfl (C.nw hl)) hnamed hmethM hstM hkP hkPi hy (a := b) (cell := cell) (by rw [hT]; exact f1)
      (fun z h => by rw [h] at f2; cases f2) hselP hmethM habM hkP hkPi (g := F0 (xm X) pc ls st) rfl (argsL := As) (rest := rest) hlen hs (by rw [C.b]; exact hd)
    exact ⟨mk, vm₁, hnamed, X₁, hstep₁⟩
/-- a static call -/
def ZS (own : String) (idx : Nat) (y : MethodName) (n : Nat) : Prop := (Cond.methodLink own idx y ∈ lw_all ∨ ∃ host, Cond.methodLinkNest own idx y host ∈ zNw) ∧ Cond.static y ∈ lw_all ∧ Cond.initialized y.cls ∈ lw_all ∧ (y.cls ≠ "java/lang/invoke/MethodHandle" ∧ y.cls ≠ "java/lang/invoke/VarHandle") ∧ (parseMethodDescriptor y.desc).map (fun d => d.parameters.length) = some n
theorem zinv_S (C : ZC G own nm cc nL ret tb X d) {idx : Nat} {As : List Value} (V : ZS own idx y As.length) (hcode : ZCode y cc' nL' ret' tb') (hd : decode cc pc = .ok (.invokestatic idx, 3)) (hs : st = As.reverse ++ rest) : ∀ (H : Heap) (ls : Array Slot), HP G σ H → ZInv l X y As pc st rest H ls := by
  intro H ls hP T locs cells slots hT X0
  obtain ⟨hl, hstt, hini, hy, hpar⟩ := V
  obtain ⟨mk, hnamed⟩ := hcode.named C.K
  obtain ⟨methM, cM, hmethM, -, -, -, -, -, -, hsigM⟩ := hcode.spec C.K hnamed
  have hstatic : methM.isStatic = true := Cond.static_spec hnamed hmethM (C.w hstt)
  obtain ⟨kP, hkP, -⟩ := className_of_methodNamed hnamed
  have hinitP : kP.init = .initialized := Cond.initialized_spec (findClass_of_methodNamed hnamed) hkP (C.w hini)
  have hlen := zpar hpar hsigM
  rcases hl with hl | ⟨host, hl⟩
  · obtain ⟨vm₁, X₁, hstep₁⟩ := X0.invokestatic C.x C.ow (C.w hl) hnamed hmethM hstatic hkP hinitP hy (g := F0 (xm X) pc ls st) rfl (argsL := As) (rest := rest) hlen hs (by rw [C.b]; exact hd)
    exact ⟨mk, vm₁, hnamed, X₁, hstep₁⟩
  · obtain ⟨vm₁, X₁, hstep₁⟩ := X0.invokestaticNest C.x C.ow (va_Nw.use rfl (C.nw hl)) hnamed hmethM hstatic hkP hinitP hy (g := F0 (xm X) pc ls st) rfl (argsL := As) (rest := rest) hlen hs (by rw [C.b]; exact hd)
    exact ⟨mk, vm₁, hnamed, X₁, hstep₁⟩
/-- a constructor's call -/
def ZIn (own : String) (idx : Nat) (y : MethodName) (cc' : ByteArray) (nL' n : Nat) : Prop := (Cond.methodLink own idx y ∈ lw_all ∨ ∃ host, Cond.methodLinkNest own idx y host ∈ zNw) ∧ Cond.instanceMethod y ∈ lw_all ∧ Cond.code y cc' nL' none ∈ lw_all ∧ y.name = "<init>" ∧ (y.cls ≠ "java/lang/invoke/MethodHandle" ∧ y.cls ≠ "java/lang/invoke/VarHandle") ∧ (parseMethodDescriptor y.desc).map (fun d => d.parameters.length) = some n
theorem zinv_I (C : ZC G own nm cc nL ret tb X d) {idx b : Nat} {As : List Value} (V : ZIn own idx y cc' nL' As.length) (hd : decode cc pc = .ok (.invokespecial idx, 3)) (hs : st = As.reverse ++ .ref b :: rest) : ∀ (H : Heap) (ls : Array Slot), HP G σ H → ZInv l X y (.ref b :: As) pc st rest H ls := by
  intro H ls hP T locs cells slots hT X0
  obtain ⟨hl, hin, hcode, hy1, hy, hpar⟩ := V
  have hpl : (xe X).platform.magicAccessors = ({} : Platform).magicAccessors := by rw [X0.admits.platform]
  have hlen : ∀ sig, parseMethodDescriptor y.desc = some sig → As.length = sig.parameters.length := fun sig h => zpar hpar h
  rcases hl with hl | ⟨host, hl⟩
  · obtain ⟨mk, methM, cM, kP, vm₁, hnamed, hmethM, hcodeM, -, hlocalsM, -, hkP, -, hW₁, hstep₁⟩ := Steps.initColdArgs (e := xe X) X0.here C.x X0.warmed hpl C.ow hy1 hy (C.w hl) (C.w hin) (C.w hcode) (f := F0 (xm X) pc ls st) rfl hlen hs (by rw [C.b]; exact hd)
    exact ⟨mk, vm₁, hnamed, X0.noted hW₁, hstep₁⟩
  · obtain ⟨mk, methM, cM, kP, vm₁, hnamed, hmethM, hcodeM, -, hlocalsM, -, hkP, -, hW₁, hstep₁⟩ := Steps.initColdArgsNest (e := xe X) X0.here C.x X0.warmed hpl C.ow hy1 hy (va_Nw.use (A := xa X) rfl (C.nw hl)) (C.w hin) (C.w hcode) (f := F0 (xm X) pc ls st) rfl hlen hs (by rw [C.b]; exact hd)
    exact ⟨mk, vm₁, hnamed, X0.noted hW₁, hstep₁⟩
end
