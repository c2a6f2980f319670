set_option maxRecDepth 100000
section
variable {p : Program} {l : Launch} {e : Env} {R : Room} {s : State} {m₀ : MethodId} {args : Array Value} {below : List Frame} {meth : Method} {c : Code} {T' : State} {locs : List Loc} {cells slots : Nat}
set_option maxHeartbeats 4000000 in
theorem zvm_throwN (X : Stand p l e R s m₀ args below meth c T' locs cells slots) (hexec : p.tables.exec = Jvm.exec) (htr : e.platform.stackTraces = false) {cls : String} {names : List String} {text : String}
    (hcls : Bundle.fit cls = true) (hnames : ∀ n ∈ names, Bundle.fit n = true) (hsoe : (cls == "java/lang/StackOverflowError") = false) (hoom : (cls == "java/lang/OutOfMemoryError") = false)
    (h : ∀ a ∈ Bundle.messageArmAtoms cls names, a.before args s = true) (hlocs : ∀ (cf : ClassId) (kf : Class) (fi : Nat) (f : Field) (a : Nat), s.fieldFound? Bundle.tN "UNASSIGNED_STACK" Bundle.steD = some (cf, kf, fi, f) → kf.statics = some a → ∀ i, (⟨a, i⟩ : Loc) ∉ locs)
    (htext : (text == notModelled) = false) (hlimit : ¬ (stringBytes (stringToUtf16 text)).size > e.platform.arrayLengthLimit) (hheap : ¬ (stringBytes (stringToUtf16 text)).size * componentBytes .byte > e.platform.maxHeapBytes)
    {g : JFrame} (hg : g.method = m₀) (hsize : g.locals.size = c.maxLocals) {nf : NFrame} (hnf : (Frame.native nf).words = 0) (haw : nf.awaiting = false) (hlk : nf.locked = none)
    (hRframes : names.length + 5 < R.frames) (hRlocals : 2 * g.monitorRoom + (g.stack.map fun v => v.category).sum + 10240 ≤ R.locals) (hshort : 13 * names.length + 55 ≤ 10240)
    (hRcells : cells + 3 ≤ R.cells) {n : Nat} (hn : (stringBytes (stringToUtf16 text)).size + 4 + 6 ≤ n) (hRslots : slots + n ≤ R.slots) :
    ∃ (U : State) (L : List Loc), Stand p l e R s m₀ args below meth c U (locs ++ L) (cells + 3) (slots + n) ∧ (∀ q ∈ L, q.base = T'.heap.size + 2) ∧
      (∀ target, Steps p.tables e below ((U.setTop g).pushFrame (.throwing (T'.heap.size + 2))) target → Steps p.tables e below (T'.setFrames (.throwNew cls (some text) none :: .native nf :: .java g :: below)) target) ∧
      U.heap.size = T'.heap.size + 3 ∧ (∀ q : Nat, q < T'.heap.size → U.heap[q]? = T'.heap[q]?) ∧ ∃ cell : Cell, U.heap[T'.heap.size + 2]? = some cell ∧ cell.vm.isStatics = false ∧ s.vm.findClass cls = some cell.cls := by
  have howns : e.platform.frameOwnsMonitors = true := by rw [X.admits.platform]
  have hfin : e.platform.finalization = false := by rw [X.admits.platform]
  have hpl : e.platform.magicAccessors = ({} : Platform).magicAccessors := by rw [X.admits.platform]
  have a : ∀ x, x ∈ Bundle.messageArmAtoms cls names → x.holds args s none s [] = true := fun x hx => h x hx
  obtain ⟨T, Z0, L, -, Y⟩ := ThrowableC.of_atoms (args := args) howns hfin hpl (fun x hx => h x (by simp [Bundle.messageArmAtoms, hx]))
  obtain ⟨Z, M, LZ, LM, hnZ⟩ := Init0T.ofS_atoms (args := args) hpl L Y (fun x hx => h x (by simp [Bundle.messageArmAtoms, hx]))
  obtain ⟨P1, Ps, hlen, L1, hL, hP1m, hlink1, hlink⟩ := Bundle.chainS (args := args) hpl hnZ names cls hcls hnames (fun x hx => h x (by simp [Bundle.messageArmAtoms, hx]))
  obtain ⟨Zs, LZs, hn4, hfitv, hfitc⟩ := StringT.of_atoms (args := args) (fun x hx => h x (by simp [Bundle.messageArmAtoms, hx]))
  have hfound : s.vm.findClass cls = some P1.m.cls := findClass_of_methodNamed hP1m
  obtain ⟨c1, kX, hc1, hk, hord, -, -, hn6⟩ := Cond.instantiable_spec (a (.instantiable cls 6) (by simp [Bundle.messageArmAtoms]))
  cases Option.some.inj (hc1.symm.trans hfound)
  have hinit := Cond.initialized_spec hfound hk (a (.initialized cls) (by simp [Bundle.messageArmAtoms]))
  have hctor : kX.findMethod "<init>" "(Ljava/lang/String;)V" = some P1.m.idx := findMethod_of_methodNamed hP1m hk
  have hsel0 : selectMethod e.platform s.vm P1.m.cls T.fill0 = .method T.fill0 := by
    obtain ⟨c2, r2, m2, q1, q2, q3, q4, -⟩ := Cond.selects_spec (a (.selects cls Bundle.tFill0 Bundle.tFill0) (by simp [Bundle.messageArmAtoms]))
    cases Option.some.inj (q1.symm.trans hfound)
    cases Option.some.inj (q2.symm.trans (State.methodFound?_of_named Y.fill0 (by decide)))
    cases Option.some.inj (q3.symm.trans Y.fill0)
    rw [Launch.admits_selectMethod X.admits]; exact q4
  have hselF : selectMethod e.platform s.vm P1.m.cls T.fill = .method T.fill := by
    obtain ⟨c2, r2, m2, q1, q2, q3, q4, -⟩ := Cond.selects_spec (a (.selects cls Bundle.tFill Bundle.tFill) (by simp [Bundle.messageArmAtoms]))
    cases Option.some.inj (q1.symm.trans hfound)
    cases Option.some.inj (q2.symm.trans (State.methodFound?_of_named Y.fill (by decide)))
    cases Option.some.inj (q3.symm.trans Y.fill)
    rw [Launch.admits_selectMethod X.admits]; exact q4
  obtain ⟨cellS0, hcS0, hiss⟩ := Y.statics
  obtain ⟨u0, hu0⟩ := Cond.staticRefV Y.unassigned L.unassignedStatic L.statics hcS0 hiss (a (.isRef (.static Bundle.tN "UNASSIGNED_STACK" Bundle.steD)) (by simp [Bundle.messageArmAtoms]))
  obtain ⟨sen, hsen⟩ := Cond.staticRefV Y.sentinel L.sentinelStatic L.statics hcS0 hiss (a (.isRef (.static Bundle.tN "SUPPRESSED_SENTINEL" Bundle.listD)) (by simp [Bundle.messageArmAtoms]))
  obtain ⟨ci198, i198, fB, hk198, hg198, ha198, hsB, -, hnB, htB, hffB⟩ := Cond.ownField (t := .object "java/lang/Object") Y.found L.cls (by decide +kernel) (a (.fieldLink Bundle.tN 198 Bundle.tN "backtrace" "Ljava/lang/Object;") (by simp [Bundle.messageArmAtoms])) (a (.lays Bundle.tN Bundle.tN "backtrace" "Ljava/lang/Object;") (by simp [Bundle.messageArmAtoms])) e.platform hpl
  obtain ⟨cellS, hcS', heS, -, hkeep⟩ := X.same.2.2.2.2.2 T.aS cellS0 hcS0
  have hcellS : T'.heap[T.aS]? = some cellS := hcS'
  have hout' : ∀ i, (⟨T.aS, i⟩ : Loc) ∉ locs := fun i => hlocs _ _ _ _ _ Y.unassigned L.statics i
  have hknownS : cellS.vm ≠ .unknown := by
    rw [heS]; intro hu
    rw [show cellS0.vm = .unknown from hu] at hiss
    cases hiss
  obtain ⟨iM, hffM⟩ := Y.msg
  obtain ⟨tyC, dC, hdC, hdnC⟩ := Cond.laysAt hfound hk Y.cause (a (.lays cls Bundle.tN "cause" "Ljava/lang/Throwable;") (by simp [Bundle.messageArmAtoms]))
  obtain ⟨tyS, dS, hdS, hdnS⟩ := Cond.laysAt hfound hk Y.stack (a (.lays cls Bundle.tN "stackTrace" Bundle.steD) (by simp [Bundle.messageArmAtoms]))
  obtain ⟨tyP, dP, hdP, hdnP⟩ := Cond.laysAt hfound hk Y.supp (a (.lays cls Bundle.tN "suppressedExceptions" Bundle.listD) (by simp [Bundle.messageArmAtoms]))
  obtain ⟨tyM, dM, hdM, hdnM⟩ := Cond.laysAt hfound hk hffM (a (.lays cls Bundle.tN "detailMessage" "Ljava/lang/String;") (by simp [Bundle.messageArmAtoms]))
  obtain ⟨tyB, dB, hdB, hdnB⟩ := Cond.laysAt hfound hk hffB (a (.lays cls Bundle.tN "backtrace" "Ljava/lang/Object;") (by simp [Bundle.messageArmAtoms]))
  have bC := Cond.laysApart hdB hdC hdnB hdnC (by rw [hnB, Y.causeName]; decide)
  have bS := Cond.laysApart hdB hdS hdnB hdnS (by rw [hnB, Y.stackName]; decide)
  have bP := Cond.laysApart hdB hdP hdnB hdnP (by rw [hnB, Y.suppName]; decide)
  have hskip : SkipFacts T e.platform s (fun u => u) u0 ((preparedCellV T.toThrowableT (freshCell P1.m.cls kX) (T'.heap.size + 2) u0 sen).withEntry T'.cur) :=
    ⟨{ ci198 := ci198, i198 := i198, fBack := fB }, ⟨hk198, hg198, ha198, hsB⟩, by
      have := fresh_default (c := P1.m.cls) tyB
      rw [htB] at this
      simpa [preparedCellV, Cell.setSlot, Cell.withEntry, Array.getElem?_setIfInBounds, bC, bS, bP, bC.symm, bS.symm, bP.symm, defaultValue] using this, fun _ _ => rfl⟩
  have hRf : Ps.length + 5 < R.frames := by rw [hlen]; exact hRframes
  have hsh : 13 * Ps.length + 55 ≤ 10240 := by rw [hlen]; exact hshort
  have hRs : slots + ((stringBytes (stringToUtf16 text)).size + Zs.kS.instanceTypes.size + kX.instanceTypes.size) ≤ R.slots := by rw [hn4, hn6]; omega
  obtain ⟨g₀, hfr0⟩ := X.frames_eq
  have hcur0 : T'.cur < T'.threads.size := State.cur_lt_of_frames hfr0
  have hov : zOv T' (.native nf :: .java g :: below) below := ⟨X.here.running, X.here.runnable, X.here.alone, hcur0, [.native nf, .java g], rfl⟩
  have hA : ∀ K, 2 * g.monitorRoom + (g.stack.map fun v => v.category).sum + K ≤ R.locals → (stackUse (.native nf :: .java g :: below)).2 + K ≤ (e.platform.stackLimits T'.me).2 := fun K hK => by
    have h := X.stackAbove hsize hK
    rw [X.tail] at h
    rw [stackUse_light (.native nf) _ (fun f hf => by cases hf) hnf]
    exact h
  have hfr' : (Frame.native nf :: .java g :: below).length + Ps.length + 4 < (e.platform.stackLimits T'.me).1 := by
    have h := X.framesAbove hRf
    rw [hfr0] at h
    simp only [List.length_cons] at h ⊢
    omega
  have hwd' := hA (13 * Ps.length + 55) (by omega)
  have hb0 : ((((T'.setFrames (.throwNew cls (some text) none :: .native nf :: .java g :: below)).threads[T'.cur]?).map (·.stackBytes)).getD 0) = T'.me.stackBytes := by
    rw [← State.stackBytes_setFrames T' (.throwNew cls (some text) none :: .native nf :: .java g :: below)]
    exact State.stackBytes_me (T'.setFrames (.throwNew cls (some text) none :: .native nf :: .java g :: below))
  have hA2 := hA 10240 hRlocals
  have hlimit2 : (e.platform.stackLimits T'.me).2 = (e.platform.limitsFor T'.me.stackBytes).2 := rfl
  have hbf : e.platform.stackBeyond ((((T'.setFrames (.throwNew cls (some text) none :: .native nf :: .java g :: below)).threads[T'.cur]?).map (·.stackBytes)).getD 0) (T'.setFrames (.throwNew cls (some text) none :: .native nf :: .java g :: below)).frames = false ∧ e.platform.vmThrowRoom ≤ e.platform.stackFree ((((T'.setFrames (.throwNew cls (some text) none :: .native nf :: .java g :: below)).threads[T'.cur]?).map (·.stackBytes)).getD 0) (T'.setFrames (.throwNew cls (some text) none :: .native nf :: .java g :: below)).frames := by
    rw [hb0, State.frames_setFrames _ hcur0, Launch.admits_vmThrowRoom X.admits]
    unfold Platform.stackBeyond Platform.stackFree
    rw [stackUse_light _ _ (fun f hf => by cases hf) rfl]
    exact ⟨decide_eq_false (by omega), by omega⟩
  have hslots : T'.slotsUsed + (stringBytes (stringToUtf16 text)).size + Zs.kS.instanceTypes.size + kX.instanceTypes.size ≤ e.platform.maxSlots := by have := X.slotsAbove hRs; omega
  have hW := X.warmed
  obtain ⟨kX', hk', he'⟩ := hW.alike.2.2 _ _ hk
  have hty : kX'.instanceTypes = kX.instanceTypes := by rw [he']
  have hfresh : freshCell P1.m.cls kX' = freshCell P1.m.cls kX := by
    show ({ cls := P1.m.cls, slots := kX'.instanceTypes.map defaultValue, vm := .none } : Cell) = _
    rw [hty]
  obtain ⟨kS', kB', LZ', htyS⟩ := LZs.warmer hW.alike
  have hsame : withThrown T' { Zs with kS := kS', kB := kB' } text P1.m.cls kX' = withThrown T' Zs text P1.m.cls kX := by
    rw [← withThrown_warmer T' Zs (kB' := kB') htyS text P1.m.cls kX]
    show (withString T' _ _ _ _ _ _).pushCell (freshCell P1.m.cls kX') = (withString T' _ _ _ _ _ _).pushCell (freshCell P1.m.cls kX)
    rw [hfresh]
  have hfs : T'.fitsSlot = s.fitsSlot := (show T'.fitsSlot = (s.setVm T'.vm).fitsSlot from rfl).trans (State.fitsSlot_setVm hW.alike)
  have hv1 : T'.fitsSlot Zs.cS .none Zs.fv.slot (.ref T'.heap.size) = true := by rw [hfs]; exact hfitv _
  have hv2 : T'.fitsSlot Zs.cS .none Zs.fc.slot (.int (stringCoder (stringToUtf16 text))) = true := by rw [hfs]; exact hfitc _
  obtain ⟨v1, v2, -, v4, v5, -, v7⟩ := withThrown_facts e.platform T' Zs text P1.m.cls kX
  have hltS : T.aS < T'.heap.size := (Array.getElem?_eq_some_iff.mp hcellS).1
  have hovW : zOv (withThrown T' Zs text P1.m.cls kX) (.native nf :: .java g :: below) below := by
    obtain ⟨r1, r2, r3, r4, r5⟩ := hov
    exact ⟨r1, by simpa [withThrown, withString] using r2, by simpa [withThrown, withString] using r3, r4, r5⟩
  have hcurW : (withThrown T' Zs text P1.m.cls kX).cur = T'.cur := by simp [withThrown, withString]
  obtain ⟨vm', hW', st0⟩ := zov_ctor p (W := withThrown T' Zs text P1.m.cls kX) (self := T'.heap.size + 2) (str := T'.heap.size + 1) (u0 := u0) (sen := sen) (cell := freshCell P1.m.cls kX) (cellS := cellS) hovW hexec T L Z LZ M LM (by rw [v1]; exact hW) v4
    (by intro k hk'; cases hk') (by intro hk'; cases hk') rfl hsel0 ((v5 _ hltS).trans hcellS) (Nat.ne_of_lt (Nat.lt_of_lt_of_le hltS (Nat.le_add_right _ 2))) hknownS (by rw [hkeep _ (hout' _)]; exact hu0) (Takes.of_laid hk hord tyS (by rw [Y.stackType]; exact fits_refV_array _ u0)) (by rw [hcurW]; exact hskip) htr hselF (by rw [hkeep _ (hout' _)]; exact hsen) (Takes.of_laid hk hord tyC (by rw [Y.causeType]; rfl)) (Takes.of_laid hk hord tyP (by rw [Y.suppType]; exact fits_refV_object _ sen)) (Takes.of_laid hk hord tyM (by rw [Y.msgType]; rfl)) Y.objLocals P1 L1 Ps hL hlink1 hlink (lim := e.platform.stackLimits T'.me) v7 hfr' hwd'
  rw [hcurW, plainBareV_eq T.toThrowableT (T'.heap.size + 2) u0 sen (.ref (T'.heap.size + 1)) T'.cur rfl rfl] at st0
  have st : ∀ target, Steps p.tables e below ((((withThrown T' Zs text P1.m.cls kX).setVm vm').setCell (T'.heap.size + 2) (plainBareV T.toThrowableT (freshCell P1.m.cls kX) (T'.heap.size + 2) u0 sen (.ref (T'.heap.size + 1)))).setFrames (.throwing (T'.heap.size + 2) :: .native nf :: .java g :: below)) target → Steps p.tables e below (T'.setFrames (.throwNew cls (some text) none :: .native nf :: .java g :: below)) target := by
    intro target ht
    have hf0 : (T'.setFrames (.throwNew cls (some text) none :: .native nf :: .java g :: below)).frames = .throwNew cls (some text) none :: .native nf :: .java g :: below := State.frames_setFrames _ hcur0
    refine Steps.head ⟨X.here.running, by simpa using X.here.runnable, by simpa using X.here.alone⟩ ⟨.throwNew cls (some text) none :: [.native nf, .java g], by rw [hf0]; rfl, by simp, by simp⟩ ?_
    rw [stepThread_throwNew hf0, stepThrowNew_message (s := T'.setFrames (.throwNew cls (some text) none :: .native nf :: .java g :: below)) (c := P1.m.cls) (k := kX') (i := P1.m.idx) { Zs with kS := kS', kB := kB' } LZ' hsoe hoom (by show T'.vm.findClass cls = _; rw [hW.alike.findClass]; exact hfound) hk' (by rw [he']; exact hinit) (by rw [he']; exact hord) (Launch.admits_hotImplicitExceptions X.admits) hbf.1 hbf.2 htext (by rw [he']; exact hctor) hlimit hheap (X.cellsAbove hRcells) (by show T'.slotsUsed + _ + kS'.instanceTypes.size + kX'.instanceTypes.size ≤ _; rw [htyS, hty]; exact hslots) hv1 hv2]
    have hN : (withThrown (T'.setFrames (.throwNew cls (some text) none :: .native nf :: .java g :: below)) { Zs with kS := kS', kB := kB' } text P1.m.cls kX').setFrames (.thenThrow ((T'.setFrames (.throwNew cls (some text) none :: .native nf :: .java g :: below)).heap.size + 2) :: .native nf :: .java g :: below) = (withThrown T' Zs text P1.m.cls kX).setFrames (.thenThrow (T'.heap.size + 2) :: .native nf :: .java g :: below) := by
      rw [withThrown_setFrames, State.setFrames_setFrames, hsame]
      rfl
    rw [hN]
    exact st0 target ht
  obtain ⟨-, -, w3, w4, -, -, -⟩ := withThrown_facts e.platform T' Zs text P1.m.cls kX
  obtain ⟨w0, w1⟩ := withThrown_two T' Zs text P1.m.cls kX
  have X3 := ((X.pushed (bytesOf Zs.cB (stringToUtf16 text))).pushed (stringAt Zs.cS Zs.kS Zs.fv Zs.fc (stringToUtf16 text) T'.heap.size)).pushed (freshCell P1.m.cls kX)
  rw [← withString_eq] at X3
  have X4 := X3.noted hW'
  have ha : (T'.heap.size + 2) < ((withThrown T' Zs text P1.m.cls kX).setVm vm').heap.size := by show _ < (withThrown T' Zs text P1.m.cls kX).heap.size; rw [w3]; omega
  have hcell : ((withThrown T' Zs text P1.m.cls kX).setVm vm').heap[(T'.heap.size + 2)]? = some (freshCell P1.m.cls kX) := w4
  have X5 := ((((X4.stored hcell T.fCause.slot (.ref (T'.heap.size + 2))).storedAgain ha T.fStack.slot u0.v).storedAgain ha T.fSupp.slot sen.v).storedAgain ha T.fStack.slot u0.v).storedAgain ha T.fMsg.slot (.ref (T'.heap.size + 1))
  have b1 : (bytesOf Zs.cB (stringToUtf16 text)).slots.size = (stringBytes (stringToUtf16 text)).size := by
    rw [(Cell.writeAll_facts _ _).2.2]; simp [bytes0]
  have b2 : (stringAt Zs.cS Zs.kS Zs.fv Zs.fc (stringToUtf16 text) T'.heap.size).slots.size = 4 := by simp [string0, Cell.setSlot, hn4]
  have b3 : (freshCell P1.m.cls kX).slots.size = 6 := by simp [hn6]
  rw [b1, b2, b3] at X5
  have hold : ∀ q : Nat, q < T'.heap.size → (withThrown T' Zs text P1.m.cls kX).heap[q]? = T'.heap[q]? := by
    intro q hq
    show ((withString T' Zs.cB Zs.cS Zs.kS Zs.fv Zs.fc (stringToUtf16 text)).heap.push (freshCell P1.m.cls kX))[q]? = _
    rw [withString_eq]
    show (((T'.heap.push _).push _).push _)[q]? = _
    rw [Array.getElem?_push_lt (by simp; omega), Array.getElem_push_lt (by simp; omega), Array.getElem_push_lt hq, Array.getElem?_eq_getElem hq]
  refine ⟨((withThrown T' Zs text P1.m.cls kX).setVm vm').setCell (T'.heap.size + 2) (plainBareV T.toThrowableT (freshCell P1.m.cls kX) (T'.heap.size + 2) u0 sen (.ref (T'.heap.size + 1))), [⟨T'.heap.size + 2, T.fCause.slot⟩, ⟨T'.heap.size + 2, T.fStack.slot⟩, ⟨T'.heap.size + 2, T.fSupp.slot⟩, ⟨T'.heap.size + 2, T.fStack.slot⟩, ⟨T'.heap.size + 2, T.fMsg.slot⟩], ?_, ?_, ?_, ?_, ?_, ?_⟩
  · exact ⟨X5.admits, X5.cas, X5.clock, X5.frames, X5.room, X5.hears, X5.method, X5.code, X5.here, X5.tail, X5.warmed, X5.limits, X5.bytes, X5.same.weaken (fun x hx _ => by simpa using hx) (by omega) (by omega)⟩
  · intro q hq
    simp only [List.mem_cons, List.not_mem_nil, or_false] at hq
    rcases hq with rfl | rfl | rfl | rfl | rfl <;> rfl
  · intro target ht
    refine st target ?_
    obtain ⟨g₁, hfrM⟩ := X5.frames_eq
    have hfrM : (((withThrown T' Zs text P1.m.cls kX).setVm vm').setCell (T'.heap.size + 2) (plainBareV T.toThrowableT (freshCell P1.m.cls kX) (T'.heap.size + 2) u0 sen (.ref (T'.heap.size + 1)))).frames = .java g₁ :: below := hfrM
    rw [State.pushFrame, State.frames_setTop _ hfrM, State.setTop_of_frames _ hfrM, State.setFrames_setFrames] at ht
    refine zov_leave ⟨X5.here.running, X5.here.runnable, X5.here.alone, State.cur_lt_of_frames hfrM, [.java g], rfl⟩ haw hlk ht
  · show (((withThrown T' Zs text P1.m.cls kX).setVm vm').heap.setIfInBounds _ _).size = _
    rw [Array.size_setIfInBounds]
    exact w3
  · intro q hq
    rw [heapAt_setCell_ne _ (show T'.heap.size + 2 ≠ q by omega)]
    exact hold q hq
  · refine ⟨_, heapAt_setCell_self _ ha, ?_, ?_⟩
    · rfl
    · exact hfound
end
