set_option maxRecDepth 100000
/-! ===== the machine throws: what the abstract heap says behind it ===== -/
section
variable {l : Launch} {G : ZG} {own nm : String} {cc : ByteArray} {nL : Nat} {ret : Option FieldType} {tb : List (Nat × Nat × Nat × Nat)} {X : ZX} {d : Nat} {Q : State → Prop} {σ σ' : ZT} {pc q : Nat} {lv : List (Nat × Value)} {st rest : List Value} {β : Type} {out : β}
theorem HP.gap {H H1 : Heap} (h : HP G σ H) (z : H1.size = H.size + 3) (oq : ∀ q : Nat, q < H.size → H1[q]? = H[q]?) (n : Nat) : HP G (zgap σ 3 n) H1 := by
  have hl := @HP.lt G σ H h
  obtain ⟨h1, h2, h3, h4⟩ := h
  refine ⟨by rw [z, h1]; rfl, by show gb G ≤ zsz σ + 3; omega, fun q hq => by rw [oq q (by omega)]; exact h3 q hq, fun b hb => ?_⟩
  obtain ⟨g1, g2⟩ := h4 b hb
  exact ⟨g1, va_at.kept g2 (oq b (by rw [h1]; exact hl hb))⟩
theorem zvm_at (C : ZC G own nm cc nL ret tb X d) (hfl : l.flags = flags0) (hO : zOld G X) {cls : String} {names : List String} {text : String} (hcls : Bundle.fit cls = true) (hnames : ∀ n ∈ names, Bundle.fit n = true) (hsoe : (cls == "java/lang/StackOverflowError") = false) (hoom : (cls == "java/lang/OutOfMemoryError") = false)
    (hA : ∀ w ∈ Bundle.messageArmAtoms cls names, w ∈ lw_all ∨ w ∈ zNw ∨ w ∈ zSts) (hnl : names.length ≤ 3) (htext : (text == notModelled) = false) (hb : (stringBytes (stringToUtf16 text)).size ≤ 212) (hroom : 3 ≤ zbc σ ∧ 222 ≤ zbs σ) (hd : 8 ≤ d) (hst : (rest.map fun v => v.category).sum ≤ 60)
    {T : State} {locs : List Loc} {ls : Array Slot} (hP : HP G σ T.heap) (hL : ∀ q ∈ locs, gb G ≤ q.base) (h1 : zbc σ ≤ xbc X) (h2 : zbs σ ≤ xbs X) (hl : lv_has ls nL lv) (X0 : Stand (xp X) l (xe X) (xR X) (xs X) (xm X) (xa X) (xb X) (xmt X) (xc X) T locs (xbc X - zbc σ) (xbs X - zbs σ)) :
    ∃ (U : State) (locs' : List Loc), HP G (zgap σ 3 222) U.heap ∧ (∀ q ∈ locs', gb G ≤ q.base) ∧ zbc (zgap σ 3 222) ≤ xbc X ∧ zbs (zgap σ 3 222) ≤ xbs X ∧ Stand (xp X) l (xe X) (xR X) (xs X) (xm X) (xa X) (xb X) (xmt X) (xc X) U locs' (xbc X - zbc (zgap σ 3 222)) (xbs X - zbs (zgap σ 3 222)) ∧
      (∀ target, Steps (xp X).tables (xe X) (xb X) ((U.setTop (F0 (xm X) pc ls rest)).pushFrame (.throwing (zsz σ + 2))) target → Steps (xp X).tables (xe X) (xb X) ((T.setTop (F0 (xm X) pc ls rest)).pushFrame (.throwNew cls (some text) none)) target) ∧
      ∃ cell : Cell, U.heap[zsz σ + 2]? = some cell ∧ cell.vm.isStatics = false ∧ (xs X).vm.findClass cls = some cell.cls := by
  have hfr := C.fr
  have hlo := C.lo
  have hce := C.ce
  have hsl := C.sl
  have htr : (xe X).platform.stackTraces = false := by
    rw [X0.admits.platform]
    show l.stackTraces = false
    unfold Launch.stackTraces
    rw [hfl]
    decide +kernel
  have hlim : ¬ (stringBytes (stringToUtf16 text)).size > (xe X).platform.arrayLengthLimit := by
    rw [X0.admits.platform]
    show ¬ _ > ({} : Platform).arrayLengthLimit
    have : 212 ≤ ({} : Platform).arrayLengthLimit := by decide
    omega
  have hhp : ¬ (stringBytes (stringToUtf16 text)).size * componentBytes .byte > (xe X).platform.maxHeapBytes := by
    rw [X0.admits.platform]
    show ¬ _ > ({} : Platform).maxHeapBytes
    have h3 : 212 ≤ ({} : Platform).maxHeapBytes := by decide
    have h4 : componentBytes .byte = 1 := by decide
    rw [h4]
    omega
  have hsz : (F0 (xm X) pc ls rest).locals.size = (xc X).maxLocals := by rw [C.ml]; exact hl.1
  have hsz2 : T.heap.size = zsz σ := hP.1
  obtain ⟨U, L, Y, hLb, hst', z, oq, hcell⟩ := zvm_throw X0 C.x htr hcls hnames hsoe hoom (zatoms C hO hA) (fun cf kf fi f a hf ha i hi => by
    obtain ⟨c', k', i', f', a', cell', g1, g2, g3, g4, g5, g6, g7, g8, g9, g10⟩ := C.S.2.2.2.2.2.2.1
    cases g2.symm.trans hf
    cases g4.symm.trans ha
    exact g10 (hL _ hi)) htext hlim hhp (g := F0 (xm X) pc ls rest) rfl hsz (by omega) (by show 2 * 0 + (rest.map fun v => v.category).sum + 10240 ≤ _; omega) (by omega) (n := 222) (by omega) (by omega) (by omega)
  rw [hsz2] at hLb hst' hcell
  refine ⟨U, locs ++ L, hP.gap z oq 222, ?_, ?_, ?_, ?_, hst', hcell⟩
  · intro q hq
    rcases List.mem_append.mp hq with h | h
    · exact hL q h
    · rw [hLb q h]
      have := hP.2.1
      omega
  · show zbc σ - 3 ≤ _; omega
  · show zbs σ - 222 ≤ _; omega
  · have e1 : xbc X - zbc (zgap σ 3 222) = xbc X - zbc σ + 3 := by show xbc X - (zbc σ - 3) = _; omega
    have e2 : xbs X - zbs (zgap σ 3 222) = xbs X - zbs σ + 222 := by show xbs X - (zbs σ - 222) = _; omega
    rw [e1, e2]
    exact Y
end
