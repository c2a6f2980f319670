set_option maxRecDepth 100000
/-! ===== a clause of the method's own table takes what was thrown ===== -/
theorem ZC.nc {G : ZG} {own nm : String} {cc : ByteArray} {nL : Nat} {ret : Option FieldType} {tb : List (Nat × Nat × Nat × Nat)} {X : ZX} {d : Nat} (C : ZC G own nm cc nL ret tb X d) {q : String × String} (h : q ∈ zNcs) : va_Nc q.1 q.2 (xs X) := C.K.2.2.2.1.2 q h
/-- a row of the table that doesn't take an object of the class tn thrown at pc -/
def zPass (args : Array Value) (s : State) (own tn : String) (pc : Nat) (y : ExceptionTableEntry) : Prop := covers y pc = false ∨ (y.catchType ≠ 0 ∧ ∃ name, (Cond.classLink own y.catchType name).before args s = true ∧ va_Nc tn name s)
theorem zgo_row {Q : Handler → Pre} {E : CtlPost} {e : Env} {d : Bool} {acts : List Action} {s : State} {f : JFrame} {a : Addr} {x : ExceptionTableEntry} {t : List ExceptionTableEntry} {c : ClassId} {cell : Cell} (hx : covers x f.pc = true) (h0 : x.catchType ≠ 0)
    (hl : s.vm.ClassLinks e.platform f.method.cls x.catchType c) (hcell : s.heap[a]? = some cell) (hobj : ∀ k, cell.vm ≠ .statics k) (hk : ∃ k, s.vm.classes[cell.cls]? = some k) (hc : ∃ k, s.vm.classes[c]? = some k) :
    wp (findHandler.go f a (x :: t)) Q E e d acts s ↔ if s.vm.assignable cell.cls c = true then Q (.found x.handlerPc) d acts (s.setVm (s.vm.noted f.method.cls x.catchType (.cls c))) else wp (findHandler.go f a t) Q E e d acts (s.setVm (s.vm.noted f.method.cls x.catchType (.cls c))) := by
  simp only [covers] at hx
  obtain ⟨r1, r2⟩ := (resolveClass_links e.toSetting hl).op (op := VmOp.resolveClass f.method.cls x.catchType) rfl
  have hal : s.vm.Alike (s.vm.noted f.method.cls x.catchType (.cls c)) := (Vm.Alike.refl s.vm).noted _ _ _
  obtain ⟨k1, hk1⟩ := hk
  obtain ⟨k2, hk2⟩ := hc
  obtain ⟨k1', hk1', -⟩ := hal.2.2 _ _ hk1
  obtain ⟨k2', hk2', -⟩ := hal.2.2 _ _ hk2
  cases hfit : s.vm.assignable cell.cls c with
  | true =>
    have hfit' : (s.vm.noted f.method.cls x.catchType (.cls c)).assignable cell.cls c = true := by rw [hal.assignable]; exact hfit
    simp [findHandler.go, hx, h0, r1, r2, hcell, hobj, hk1', hk2', hfit', VmOp.dirties, VmOp.acts]
  | false =>
    have hfit' : (s.vm.noted f.method.cls x.catchType (.cls c)).assignable cell.cls c = false := by rw [hal.assignable]; exact hfit
    simp [findHandler.go, hx, h0, r1, r2, hcell, hobj, hk1', hk2', hfit', VmOp.dirties, VmOp.acts]
theorem zgo_all {args : Array Value} {own tn name : String} {e : Env} {s : State} {f : JFrame} {a : Addr} {cell : Cell} (hpl : e.platform.magicAccessors = ({} : Platform).magicAccessors) (hown : s.vm.findClass own = some f.method.cls) (hobj : ∀ k, cell.vm ≠ .statics k) (hcls : s.vm.findClass tn = some cell.cls)
    (x : ExceptionTableEntry) (rest : List ExceptionTableEntry) (hx : covers x f.pc = true) (h0 : x.catchType ≠ 0) (hlink : (Cond.classLink own x.catchType name).before args s = true) {ct : ClassId} (hct : s.vm.findClass name = some ct) (hfit : s.vm.assignable cell.cls ct = true) :
    ∀ (pre : List ExceptionTableEntry) (S : State), s.WarmedH S.vm → S.heap[a]? = some cell → (∀ y ∈ pre, zPass args s own tn f.pc y) →
      ∃ vm', s.WarmedH vm' ∧ ∀ (Q : Handler → Pre) (E : CtlPost) (d : Bool) (acts : List Action), wp (findHandler.go f a (pre ++ x :: rest)) Q E e d acts S ↔ Q (.found x.handlerPc) d acts (S.setVm vm') := by
  obtain ⟨k0, hk0, -⟩ := Vm.findClass_spec hcls
  intro pre
  induction pre with
  | nil =>
    intro S hW hcell _
    obtain ⟨k0', hk0', -⟩ := hW.alike.2.2 _ _ hk0
    obtain ⟨c', hc', hcl⟩ := Cond.classLink_spec hown hlink e.platform hpl
    cases hct.symm.trans hc'
    obtain ⟨dk, _, _, kt, hd, _, _, _, _, hkt, _, hopen⟩ := hcl.here
    obtain ⟨kt', hkt', -⟩ := hW.alike.2.2 _ _ hkt
    have hfit' : S.vm.assignable cell.cls ct = true := by rw [hW.alike.assignable]; exact hfit
    refine ⟨_, hW.noted hd hopen (State.rightAt_cls hcl), fun Q E d acts => ?_⟩
    rw [List.nil_append, zgo_row hx h0 (hW.classLinks hcl) hcell hobj ⟨k0', hk0'⟩ ⟨kt', hkt'⟩, if_pos hfit']
  | cons y ys ih =>
    intro S hW hcell hpass
    obtain ⟨k0', hk0', -⟩ := hW.alike.2.2 _ _ hk0
    have hrest : ∀ z ∈ ys, zPass args s own tn f.pc z := fun z hz => hpass z (List.mem_cons_of_mem _ hz)
    by_cases hcov : covers y f.pc = true
    · rcases hpass y List.mem_cons_self with h | ⟨hy0, nm, hlk, c1, t1, g1, g2, g3⟩
      · rw [h] at hcov; cases hcov
      · obtain ⟨c', hc', hcl⟩ := Cond.classLink_spec hown hlk e.platform hpl
        cases g2.symm.trans hc'
        cases hcls.symm.trans g1
        obtain ⟨dk, _, _, kt, hd, _, _, _, _, hkt, _, hopen⟩ := hcl.here
        obtain ⟨kt', hkt', -⟩ := hW.alike.2.2 _ _ hkt
        have hno : ¬ S.vm.assignable cell.cls t1 = true := by rw [hW.alike.assignable, g3]; exact Bool.false_ne_true
        obtain ⟨vm', hW', hq⟩ := ih (S.setVm (S.vm.noted f.method.cls y.catchType (.cls t1))) (hW.noted hd hopen (State.rightAt_cls hcl)) hcell hrest
        refine ⟨vm', hW', fun Q E d acts => ?_⟩
        rw [List.cons_append, zgo_row hcov hy0 (hW.classLinks hcl) hcell hobj ⟨k0', hk0'⟩ ⟨kt', hkt'⟩, if_neg hno]
        exact hq Q E d acts
    · obtain ⟨vm', hW', hq⟩ := ih S hW hcell hrest
      refine ⟨vm', hW', fun Q E d acts => ?_⟩
      rw [List.cons_append, W.findHandler_go_skip (by simpa using hcov)]
      exact hq Q E d acts
theorem zgo_step {e : Env} {s : State} {a : Addr} {f : JFrame} {r : List Frame} {pc : Nat} {vm' : Vm} (hfind : ∀ (Q : Handler → Pre) (E : CtlPost) (d : Bool) (acts : List Action), wp (findHandler f a) Q E e d acts s ↔ Q (.found pc) d acts (s.setVm vm')) :
    (stepThrowing e s a (.java f :: r)).Is ((s.setVm vm').setFrames (.java { f with pc := pc, stack := [.ref a] } :: r)) [] := by
  simp only [stepThrowing, searchFrame, vmDo]
  generalize hr : Sem.go _ e false [] s = res
  obtain ⟨as, rfl, ha⟩ := Sem.eq_ok_of hr (a := Handler.found pc) (s' := s.setVm vm') (acts' := []) (by simp [hfind _ _ _ _])
  exact ⟨rfl, ha⟩
theorem zfr (u : State) (vm' : Vm) (F G : List Frame) : ((u.setFrames F).setVm vm').setFrames G = (u.setVm vm').setFrames G := by
  have h1 : (u.setFrames F).setVm vm' = (u.setVm vm').setFrames F := rfl
  rw [h1, State.setFrames_setFrames]
theorem zgo_steps {tb : Tables} {e : Env} {s target : State} {g : JFrame} {c : Code} {below : List Frame} {a : Addr} (h : At s g.method c below) {pc : Nat} {vm' : Vm}
    (hfind : ∀ (Q : Handler → Pre) (E : CtlPost) (d : Bool) (acts : List Action), wp (findHandler g a) Q E e d acts ((s.setTop g).pushFrame (.throwing a)) ↔ Q (.found pc) d acts (((s.setTop g).pushFrame (.throwing a)).setVm vm'))
    (hrest : Steps tb e below ((s.setVm vm').setTop { g with pc := pc, stack := [.ref a] }) target) : Steps tb e below ((s.setTop g).pushFrame (.throwing a)) target := by
  obtain ⟨hgo, hw⟩ := h.throwing a
  refine Steps.head hgo hw ?_
  rw [stepThread_throwing (frames_entered h.top _), (zgo_step (s := (s.setTop g).pushFrame (.throwing a)) hfind).1]
  obtain ⟨g₀, hg⟩ := Option.isSome_iff_exists.mp h.top
  obtain ⟨r, hr⟩ := State.topJava?_eq_some.mp hg
  have hr' : (s.setVm vm').frames = .java g₀ :: r := hr
  rw [State.setTop_of_frames _ hr'] at hrest
  rw [hr, List.tail_cons, State.pushFrame, zfr, State.setTop_of_frames _ hr, zfr]
  exact hrest
section
variable {l : Launch} {G : ZG} {own nm : String} {cc : ByteArray} {nL : Nat} {ret : Option FieldType} {tb : List (Nat × Nat × Nat × Nat)} {X : ZX} {d : Nat} {Q : State → Prop} {σ σ' : ZT} {pc q : Nat} {lv : List (Nat × Value)} {st rest : List Value} {β : Type} {out : β}
/-- the thrown object's cell is known: the clause number k of the table takes it -/
theorem zcaught (C : ZC G own nm cc nL ret tb X d) {x : Nat} (k : Nat) {r : Nat × Nat × Nat × Nat} (hk : tb[k]? = some r) {tn name : String} (hcov : covers (⟨r.1, r.2.1, r.2.2.1, r.2.2.2⟩ : ExceptionTableEntry) pc = true) (h0 : r.2.2.2 ≠ 0)
    (hpass : ∀ j, j < k → ∀ y, tb[j]? = some y → zPass (xa X) (xs X) own tn pc (⟨y.1, y.2.1, y.2.2.1, y.2.2.2⟩ : ExceptionTableEntry)) (w : Cond.classLink own r.2.2.2 name ∈ lw_all) {ct ct' : ClassId} (htn : (xs X).vm.findClass tn = some ct') (hct : (xs X).vm.findClass name = some ct) (hfit : (xs X).vm.assignable ct' ct = true)
    {T : State} {locs : List Loc} {ls : Array Slot} (hP : HP G σ' T.heap) (hcell : ∃ cell : Cell, T.heap[x]? = some cell ∧ cell.vm.isStatics = false ∧ (xs X).vm.findClass tn = some cell.cls) (hL : ∀ q ∈ locs, gb G ≤ q.base) (h1 : zbc σ' ≤ xbc X) (h2 : zbs σ' ≤ xbs X) (hl : lv_has ls nL lv) (X0 : Stand (xp X) l (xe X) (xR X) (xs X) (xm X) (xa X) (xb X) (xmt X) (xc X) T locs (xbc X - zbc σ') (xbs X - zbs σ'))
    (hpc : r.2.2.1 = q) (kk : ZW l G nL X Q σ' q lv [.ref x]) : ∃ t, Steps (xp X).tables (xe X) (xb X) ((T.setTop (F0 (xm X) pc ls rest)).pushFrame (.throwing x)) t ∧ Q t := by
  subst hpc
  obtain ⟨cell, c1, c2, c3⟩ := hcell
  cases htn.symm.trans c3
  have hpl : (xe X).platform.magicAccessors = ({} : Platform).magicAccessors := by rw [X0.admits.platform]
  have hob : ∀ k, cell.vm ≠ .statics k := fun k h => by rw [h] at c2; cases c2
  have hsplit : (xc X).exceptionTable.toList = (tb.take k).map (fun y => (⟨y.1, y.2.1, y.2.2.1, y.2.2.2⟩ : ExceptionTableEntry)) ++ (⟨r.1, r.2.1, r.2.2.1, r.2.2.2⟩ : ExceptionTableEntry) :: (tb.drop (k + 1)).map (fun y => (⟨y.1, y.2.1, y.2.2.1, y.2.2.2⟩ : ExceptionTableEntry)) := by
    rw [C.tbl]
    show tb.map _ = _
    have e : tb = tb.take k ++ r :: tb.drop (k + 1) := by
      have hlt : k < tb.length := (List.getElem?_eq_some_iff.mp hk).1
      have hg : tb[k] = r := (List.getElem?_eq_some_iff.mp hk).2
      rw [← hg, List.getElem_cons_drop hlt, List.take_append_drop]
    conv => lhs; rw [e]
    rw [List.map_append, List.map_cons]
  obtain ⟨vm', hW', hq⟩ := zgo_all (args := xa X) (f := F0 (xm X) pc ls rest) (a := x) hpl C.ow hob htn _ ((tb.drop (k + 1)).map (fun y => (⟨y.1, y.2.1, y.2.2.1, y.2.2.2⟩ : ExceptionTableEntry))) hcov h0 (C.w w) hct hfit ((tb.take k).map (fun y => (⟨y.1, y.2.1, y.2.2.1, y.2.2.2⟩ : ExceptionTableEntry))) ((T.setTop (F0 (xm X) pc ls rest)).pushFrame (.throwing x)) X0.warmed c1 (fun y hy => by
    obtain ⟨z, hz, rfl⟩ := List.mem_map.mp hy
    obtain ⟨j, hj, hjz⟩ := List.mem_iff_getElem.mp hz
    have hj' : j < k ∧ j < tb.length := by
      rw [List.length_take] at hj
      omega
    refine hpass j hj'.1 z ?_
    rw [← hjz, List.getElem_take]
    exact List.getElem?_eq_getElem hj'.2)
  obtain ⟨t, t1, t2⟩ := kk (T.setVm vm').heap locs ls hP hL h1 h2 hl (T.setVm vm') rfl (X0.noted hW')
  refine ⟨t, ?_, t2⟩
  refine zgo_steps (e := xe X) (g := F0 (xm X) pc ls rest) (c := xc X) X0.here (fun Q E d acts => ?_) t1
  rw [W.findHandler_eq (meth := xmt X) (code := xc X) X0.method' X0.code, hsplit]
  exact hq Q E d acts
/-- an object of ours of the class ci was thrown -/
theorem zcaughtO (C : ZC G own nm cc nL ret tb X d) {x : Nat} (k : Nat) {r : Nat × Nat × Nat × Nat} (hk : tb[k]? = some r) {ci N : Nat} {Tf : u_T} {Cn : String} (hkl : ZKl ci Cn Tf N) (hcov : covers (⟨r.1, r.2.1, r.2.2.1, r.2.2.2⟩ : ExceptionTableEntry) pc = true) (h0 : r.2.2.2 ≠ 0)
    (hpass : ∀ j, j < k → ∀ y, tb[j]? = some y → zPass (xa X) (xs X) own Cn pc (⟨y.1, y.2.1, y.2.2.1, y.2.2.2⟩ : ExceptionTableEntry)) (w : Cond.classLink own r.2.2.2 Cn ∈ lw_all) (wc : Cond.castable Cn Cn ∈ zNw)
    {kf : Option β} (hf : vc ci x σ' kf = some out)
    {T : State} {locs : List Loc} {ls : Array Slot} (hP : HP G σ' T.heap) (hL : ∀ q ∈ locs, gb G ≤ q.base) (h1 : zbc σ' ≤ xbc X) (h2 : zbs σ' ≤ xbs X) (hl : lv_has ls nL lv) (X0 : Stand (xp X) l (xe X) (xR X) (xs X) (xm X) (xa X) (xb X) (xmt X) (xc X) T locs (xbc X - zbc σ') (xbs X - zbs σ'))
    (hpc : r.2.2.1 = q) (kk : kf = some out → ZW l G nL X Q σ' q lv [.ref x]) : ∃ t, Steps (xp X).tables (xe X) (xb X) ((T.setTop (F0 (xm X) pc ls rest)).pushFrame (.throwing x)) t ∧ Q t := by
  obtain ⟨hK, hf⟩ := vc_some hf
  obtain ⟨cell, f1, f2, f3, -⟩ := hP.recv C.K hkl hK
  obtain ⟨c', t', g1, g2, g3⟩ := Cond.castable_spec (C.nw wc)
  cases g1.symm.trans g2
  exact zcaught C k hk hcov h0 hpass w g1 g2 g3 hP ⟨cell, f1, f2, f3⟩ hL h1 h2 hl X0 hpc (kk hf)
end
