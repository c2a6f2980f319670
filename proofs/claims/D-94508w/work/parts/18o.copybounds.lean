set_option maxRecDepth 100000
/-! ===== System.arraycopy beyond a row's end: its message, its throw, its clause ===== -/
def zcpT (w : String) (i n : Int32) (k : String) (len : Nat) : String := toString w ++ toString (i.toInt + n.toInt) ++ toString " out of bounds for " ++ toString (toString k ++ toString "[" ++ toString len ++ toString "]")
theorem zint_print {i n : Int32} (hi : ¬ i < 0) (hn : ¬ n < 0) : (toString (i.toInt + n.toInt)).toList.length ≤ 10 := by
  have h1 := Int32.toInt_lt i
  have h2 := Int32.toInt_lt n
  rw [znn hi] at h1 ⊢
  rw [znn hn] at h2 ⊢
  show (toString (i.toNatClampNeg + n.toNatClampNeg)).toList.length ≤ 10
  exact nat_print (by omega)
theorem zcpT_len {w k : String} {i n : Int32} {len : Nat} (hi : ¬ i < 0) (hn : ¬ n < 0) (hl : len ≤ 60) (hw : w.toList.length ≤ 23) (hk : k.toList.length ≤ 5) : (stringBytes (stringToUtf16 ("arraycopy: " ++ zcpT w i n k len))).size ≤ 390 := by
  have b1 := stringBytes_size_le (stringToUtf16 ("arraycopy: " ++ zcpT w i n k len))
  have b2 := utf16_size_le ("arraycopy: " ++ zcpT w i n k len)
  have b3 : ("arraycopy: " ++ zcpT w i n k len).toList.length ≤ 85 := by
    have a1 : ("arraycopy: ").toList.length = 11 := by decide
    have a2 : (" out of bounds for ").toList.length = 19 := by decide
    have a3 : ("[").toList.length = 1 := by decide
    have a4 : ("]").toList.length = 1 := by decide
    have a5 := zint_print hi hn
    have a6 := nat_print (n := len) (by omega)
    show ("arraycopy: " ++ (w ++ toString (i.toInt + n.toInt) ++ " out of bounds for " ++ (k ++ "[" ++ toString len ++ "]"))).toList.length ≤ 85
    simp only [String.toList_append, List.length_append]
    omega
  omega
theorem zcpT_ok (w : String) (i n : Int32) (k : String) (len : Nat) : (("arraycopy: " ++ zcpT w i n k len) == notModelled) = false := by
  rw [beq_eq_false_iff_ne]
  intro h
  have h2 := congrArg String.toList h
  rw [String.toList_append] at h2
  have h3 : "arraycopy: ".toList = 'a' :: "rraycopy: ".toList := by decide
  rw [h3] at h2
  have h4 : notModelled.toList.head? ≠ some 'a' := by decide
  rw [← h2] at h4
  exact h4 rfl
def zkName (j : Nat) : String := Native.java_lang_System.arraycopy.kindName (zAty j)
theorem zcopy_bounds {s : State} {src dst : Addr} {srcPos destPos len : Int32} {cs cd : Cell} {ks kd : Class} {sComp dComp : ClassId} {sType dType : FieldType}
    (hs : s.heap[src]? = some cs) (hd : s.heap[dst]? = some cd) (hsobj : ∀ k, cs.vm ≠ .statics k) (hdobj : ∀ k, cd.vm ≠ .statics k)
    (hks : s.vm.classes[cs.cls]? = some ks) (hkd : s.vm.classes[cd.cls]? = some kd) (hsk : ks.kind = .array sComp sType) (hdk : kd.kind = .array dComp dType)
    (hty : ((refKind sType != refKind dType) || (!refKind sType && sType != dType)) = false) (h1 : ¬ srcPos < 0) (h2 : ¬ destPos < 0) (h3 : ¬ len < 0)
    (hf : srcPos.toInt + len.toInt > cs.slots.size ∨ destPos.toInt + len.toInt > cd.slots.size) (hl0 : cs.slots.size ≤ 60) (hl1 : cd.slots.size ≤ 60) (hn0 : (Native.java_lang_System.arraycopy.kindName sType).toList.length ≤ 5) (hn1 : (Native.java_lang_System.arraycopy.kindName dType).toList.length ≤ 5) :
    ∃ text : String, (text == notModelled) = false ∧ (stringBytes (stringToUtf16 text)).size ≤ 390 ∧ ∀ (Q : Option Value → Pre) (E : CtlPost) (e : Env) (d : Bool) (acts : List Action), E (.throwNew "java/lang/ArrayIndexOutOfBoundsException" (some text)) acts s →
      wp (Native.java_lang_System.arraycopy.sem #[.ref src, .int srcPos, .ref dst, .int destPos, .int len]) Q E e d acts s := by
  by_cases h4 : srcPos.toInt + len.toInt > cs.slots.size
  · refine ⟨_, zcpT_ok "last source index " srcPos len (Native.java_lang_System.arraycopy.kindName sType) cs.slots.size, zcpT_len h1 h3 hl0 (by decide) hn0, fun Q E e d acts hE => ?_⟩
    rw [Native.java_lang_System.arraycopy.sem_refs]
    unfold Native.java_lang_System.arraycopy.behind
    simp only [wp_bind', W.classOf, W.theClass, hs, hd, hks, hkd, Option.some.injEq, exists_eq_left', hsk, hdk]
    refine ⟨hsobj, hdobj, ?_⟩
    unfold refKind at hty
    simp only [hty, Bool.false_eq_true, if_false]
    simp only [wp_bind', W.sizeOf, hs, hd, Option.some.injEq, exists_eq_left']
    rw [if_neg h1, if_neg h2, if_neg h3, if_pos h4]
    simp only [wp_bind', W.mark, W.throwNew]
    exact hE
  · have h5 : destPos.toInt + len.toInt > cd.slots.size := hf.resolve_left h4
    refine ⟨_, zcpT_ok "last destination index " destPos len (Native.java_lang_System.arraycopy.kindName dType) cd.slots.size, zcpT_len h2 h3 hl1 (by decide) hn1, fun Q E e d acts hE => ?_⟩
    rw [Native.java_lang_System.arraycopy.sem_refs]
    unfold Native.java_lang_System.arraycopy.behind
    simp only [wp_bind', W.classOf, W.theClass, hs, hd, hks, hkd, Option.some.injEq, exists_eq_left', hsk, hdk]
    refine ⟨hsobj, hdobj, ?_⟩
    unfold refKind at hty
    simp only [hty, Bool.false_eq_true, if_false]
    simp only [wp_bind', W.sizeOf, hs, hd, Option.some.injEq, exists_eq_left']
    rw [if_neg h1, if_neg h2, if_neg h3, if_neg h4, if_pos h5]
    simp only [wp_bind', W.mark, W.throwNew]
    exact hE
/-- from the instruction to the note, the native's frame between -/
theorem zarr_note {p : Program} {l : Launch} {e : Env} {R : Room} {s : State} {m : MethodId} {args : Array Value} {below : List Frame} {meth : Method} {c : Code} {cells slots : Nat} {T : State} {locs : List Loc} (X : Stand p l e R s m args below meth c T locs cells slots) (hexec : p.tables.exec = Jvm.exec) {own : String} {index : Nat} (hown : s.vm.findClass own = some m.cls)
    (hlink : (Cond.methodLink own index arraycopyName).before args s = true) (hnat : (Cond.native arraycopyName).before args s = true) (hstat : (Cond.static arraycopyName).before args s = true)
    (hinit : (Cond.initialized "java/lang/System").before args s = true)
    {src dst : Addr} {srcPos destPos n : Int32} {cs cd : Cell} {ks kd : Class} {sComp dComp : ClassId} {sType dType : FieldType}
    (hs : T.heap[src]? = some cs) (hd : T.heap[dst]? = some cd) (hsobj : ∀ k, cs.vm ≠ .statics k) (hdobj : ∀ k, cd.vm ≠ .statics k)
    (hks : s.vm.classes[cs.cls]? = some ks) (hkd : s.vm.classes[cd.cls]? = some kd) (hsk : ks.kind = .array sComp sType) (hdk : kd.kind = .array dComp dType)
    (hty : ((refKind sType != refKind dType) || (!refKind sType && sType != dType)) = false)
    (h1 : ¬ srcPos < 0) (h2 : ¬ destPos < 0) (h3 : ¬ n < 0) (hf : srcPos.toInt + n.toInt > cs.slots.size ∨ destPos.toInt + n.toInt > cd.slots.size) (hl0 : cs.slots.size ≤ 60) (hl1 : cd.slots.size ≤ 60) (hn0 : (Native.java_lang_System.arraycopy.kindName sType).toList.length ≤ 5) (hn1 : (Native.java_lang_System.arraycopy.kindName dType).toList.length ≤ 5)
    {g : JFrame} (hg : g.method = m) (hsize : g.locals.size = c.maxLocals) {rest : List Value} (hstack : g.stack = .int n :: .int destPos :: .ref dst :: .int srcPos :: .ref src :: rest)
    (hdg : decode c.code g.pc = .ok (.invokestatic index, 3))
    (hframes : 1 ≤ R.frames) (hlocals : 2 * g.monitorRoom + (rest.map fun v => v.category).sum + (nativeFrameWords "java/lang/System" "arraycopy" 5 + 11) ≤ R.locals) :
    ∃ (vm' : Vm) (text : String) (nf : NFrame), (text == notModelled) = false ∧ (stringBytes (stringToUtf16 text)).size ≤ 390 ∧ (Frame.native nf).words = 0 ∧ nf.awaiting = false ∧ nf.locked = none ∧ Stand p l e R s m args below meth c (T.setVm vm') locs cells slots ∧
      ∀ target, Steps p.tables e below ((((T.setVm vm').setTop { g with stack := rest }).pushFrame (.native nf)).pushFrame (.throwNew "java/lang/ArrayIndexOutOfBoundsException" (some text) none)) target → Steps p.tables e below (T.setTop g) target := by
  obtain ⟨r, kS, methS, hnS, hmS, hkS, N⟩ := NativeOf.of_static hnat hstat (ps := [.object "java/lang/Object", .int, .object "java/lang/Object", .int, .int]) (ret := none) (by decide +kernel)
  have hinitS : kS.init = .initialized := Cond.initialized_spec (findClass_of_methodNamed hnS) hkS hinit
  obtain ⟨vm', X', step⟩ := X.invokestatic hexec hown hlink hnS hmS N.static hkS hinitS (by decide) hg (argsL := [.ref src, .int srcPos, .ref dst, .int destPos, .int n]) (rest := rest) (by rw [N.sig]; rfl) hstack hdg
  subst hg
  have hA' : s.vm.Alike vm' := X'.warmed.alike
  obtain ⟨kS', N'⟩ := N.alike hA'
  obtain ⟨ks', hks', hes⟩ := hA'.2.2 _ _ hks
  obtain ⟨kd', hkd', hed⟩ := hA'.2.2 _ _ hkd
  have hseen : seenByNative methS #[.ref src, .int srcPos, .ref dst, .int destPos, .int n] = #[.ref src, .int srcPos, .ref dst, .int destPos, .int n] := by
    simp [seenByNative, N'.static, N'.sig, narrow]
  obtain ⟨text, t1, t2, t3⟩ := zcopy_bounds (s := ((T.setVm vm').setTop { g with stack := rest }).pushFrame (.native { method := r, args := seenByNative methS #[.ref src, .int srcPos, .ref dst, .int destPos, .int n], locked := none })) (src := src) (dst := dst) (srcPos := srcPos) (destPos := destPos) (len := n) (cs := cs) (cd := cd) (ks := ks') (kd := kd') (sComp := sComp) (dComp := dComp) (sType := sType) (dType := dType) hs hd hsobj hdobj hks' hkd' (by rw [hes]; exact hsk) (by rw [hed]; exact hdk) hty h1 h2 h3 hf hl0 hl1 hn0 hn1
  refine ⟨vm', text, { method := r, args := seenByNative methS #[.ref src, .int srcPos, .ref dst, .int destPos, .int n], locked := none }, t1, t2, rfl, rfl, rfl, X', fun target hrest => step target fun acts => ?_⟩
  refine znat_note (g := { g with stack := rest }) (row := arraycopyRow) X'.here acts N'.cls N'.meth N'.boot N'.native N'.noCode N'.noLock (by rw [N'.className, N'.name, N'.desc]; exact arraycopy_row p) (by
    rw [N'.className, N'.name]
    exact X'.notFull (g := { g with stack := rest }) hsize (vars := nativeFrameWords "java/lang/System" "arraycopy" 5) hframes hlocals) (fun E hE => ?_) hrest
  rw [arraycopyRow_sem]
  have h := t3 (fun _ _ _ _ => False) E e false [] (hE _)
  rw [hseen] at h ⊢
  exact h
