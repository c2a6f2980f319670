set_option maxRecDepth 100000
section
variable {l : Launch} {G : ZG} {own nm : String} {cc : ByteArray} {nL : Nat} {ret : Option FieldType} {tb : List (Nat × Nat × Nat × Nat)} {X : ZX} {d : Nat} {Q : State → Prop} {σ : ZT} {pc q : Nat} {lv : List (Nat × Value)} {st : List Value}
theorem ZC.x (h : ZC G own nm cc nL ret tb X d) : (xp X).tables.exec = Jvm.exec := h.1
theorem ZC.b (h : ZC G own nm cc nL ret tb X d) : (xc X).code = cc := h.2.1
theorem ZC.ml (h : ZC G own nm cc nL ret tb X d) : (xc X).maxLocals = nL := h.2.2.1
theorem ZC.ow (h : ZC G own nm cc nL ret tb X d) : (xs X).vm.findClass own = some (xm X).cls := h.2.2.2.1
theorem ZC.K (h : ZC G own nm cc nL ret tb X d) : KK G (xs X) := h.2.2.2.2.1
theorem ZC.lk (h : ZC G own nm cc nL ret tb X d) : (xmt X).locks = false := h.2.2.2.2.2.1
theorem ZC.rt (h : ZC G own nm cc nL ret tb X d) : (xmt X).sig.returnType = ret := h.2.2.2.2.2.2.1
theorem ZC.tbl (h : ZC G own nm cc nL ret tb X d) : (xc X).exceptionTable.toList = tableOf tb := h.2.2.2.2.2.2.2.1
theorem ZC.fr (h : ZC G own nm cc nL ret tb X d) : d ≤ (xR X).frames := h.2.2.2.2.2.2.2.2.1
theorem ZC.lo (h : ZC G own nm cc nL ret tb X d) : 11000 + 60 * d ≤ (xR X).locals := h.2.2.2.2.2.2.2.2.2.1
theorem ZC.ce (h : ZC G own nm cc nL ret tb X d) : xbc X ≤ (xR X).cells := h.2.2.2.2.2.2.2.2.2.2.1
theorem ZC.sl (h : ZC G own nm cc nL ret tb X d) : xbs X ≤ (xR X).slots := h.2.2.2.2.2.2.2.2.2.2.2.1
theorem ZC.nam (h : ZC G own nm cc nL ret tb X d) : (xmt X).name = nm := h.2.2.2.2.2.2.2.2.2.2.2.2
theorem ZC.w (h : ZC G own nm cc nL ret tb X d) {w : Cond} (hw : w ∈ lw_all) : w.before (xa X) (xs X) = true := h.K.1 w hw _
theorem ZC.nw (h : ZC G own nm cc nL ret tb X d) {w : Cond} (hw : w ∈ zNw) : va_Nw w (xs X) := h.K.2.2.1 w hw
theorem z_iconst (C : ZC G own nm cc nL ret tb X d) {n : Int} (v : Int32) (hd : decode cc pc = .ok (.iconst n, 1)) (hv : Int32.ofInt n = v) (hq : pc + 1 = q) (kk : ZW l G nL X Q σ q lv (.int v :: st)) : ZW l G nL X Q σ pc lv st := by
  subst hq
  intro H locs ls hP hL h1 h2 hl
  exact lv_iconst C.x C.b hd hv (kk H locs ls hP hL h1 h2 hl)
theorem z_bipush (C : ZC G own nm cc nL ret tb X d) {n : Int} (v : Int32) (hd : decode cc pc = .ok (.bipush n, 2)) (hv : (Int8.ofInt n).toInt32 = v) (hq : pc + 2 = q) (kk : ZW l G nL X Q σ q lv (.int v :: st)) : ZW l G nL X Q σ pc lv st := by
  subst hq
  intro H locs ls hP hL h1 h2 hl
  exact lv_bipush C.x C.b hd hv (kk H locs ls hP hL h1 h2 hl)
theorem z_sipush (C : ZC G own nm cc nL ret tb X d) {n : Int} (v : Int32) (hd : decode cc pc = .ok (.sipush n, 3)) (hv : (Int16.ofInt n).toInt32 = v) (hq : pc + 3 = q) (kk : ZW l G nL X Q σ q lv (.int v :: st)) : ZW l G nL X Q σ pc lv st := by
  subst hq
  intro H locs ls hP hL h1 h2 hl
  exact lv_sipush C.x C.b hd hv (kk H locs ls hP hL h1 h2 hl)
theorem z_lconst (C : ZC G own nm cc nL ret tb X d) {n : Fin 2} (v : Int64) (hd : decode cc pc = .ok (.lconst n, 1)) (hv : Int64.ofNat (n : Nat) = v) (hq : pc + 1 = q) (kk : ZW l G nL X Q σ q lv (.long v :: st)) : ZW l G nL X Q σ pc lv st := by
  subst hq
  intro H locs ls hP hL h1 h2 hl
  exact lv_lconst C.x C.b hd hv (kk H locs ls hP hL h1 h2 hl)
theorem z_null (C : ZC G own nm cc nL ret tb X d)  (hd : decode cc pc = .ok (.aconst_null, 1))  (hq : pc + 1 = q) (kk : ZW l G nL X Q σ q lv (.null :: st)) : ZW l G nL X Q σ pc lv st := by
  subst hq
  intro H locs ls hP hL h1 h2 hl
  exact lv_null C.x C.b hd (kk H locs ls hP hL h1 h2 hl)
theorem z_iload_n (C : ZC G own nm cc nL ret tb X d) {k : Fin 4} {i : Nat} (j : Nat) {x : Int32} (hd : decode cc pc = .ok (.iload_n k, 1)) (hi : (k : Nat) = i) (hv : lv[j]? = some (i, .int x)) (hq : pc + 1 = q) (kk : ZW l G nL X Q σ q lv (.int x :: st)) : ZW l G nL X Q σ pc lv st := by
  subst hq
  intro H locs ls hP hL h1 h2 hl
  exact lv_iload_n C.x C.b hd hi (lv_at hl j hv) (kk H locs ls hP hL h1 h2 hl)
theorem z_iload (C : ZC G own nm cc nL ret tb X d) {i : Nat} (j : Nat) {x : Int32} (hd : decode cc pc = .ok (.iload i, 2)) (hv : lv[j]? = some (i, .int x)) (hq : pc + 2 = q) (kk : ZW l G nL X Q σ q lv (.int x :: st)) : ZW l G nL X Q σ pc lv st := by
  subst hq
  intro H locs ls hP hL h1 h2 hl
  exact lv_iload C.x C.b hd (lv_at hl j hv) (kk H locs ls hP hL h1 h2 hl)
theorem z_istore_n (C : ZC G own nm cc nL ret tb X d) {k : Fin 4} {i : Nat} {x : Int32} {lv' : List (Nat × Value)} (hd : decode cc pc = .ok (.istore_n k, 1)) (hi : (k : Nat) = i) (hn : i < nL) (hv : (i, Value.int x) :: lv.filter (fun q => !(q.1 == i) && !(q.1 + 1 == i && q.2.category == 2)) = lv') (hq : pc + 1 = q) (kk : ZW l G nL X Q σ q lv' st) : ZW l G nL X Q σ pc lv (.int x :: st) := by
  subst hq
  intro H locs ls hP hL h1 h2 hl
  exact lv_istore_n C.x C.b hd hi hl hn hv (fun ls' hl' => kk H locs ls' hP hL h1 h2 hl')
theorem z_istore (C : ZC G own nm cc nL ret tb X d) {i : Nat} {x : Int32} {lv' : List (Nat × Value)} (hd : decode cc pc = .ok (.istore i, 2)) (hn : i < nL) (hv : (i, Value.int x) :: lv.filter (fun q => !(q.1 == i) && !(q.1 + 1 == i && q.2.category == 2)) = lv') (hq : pc + 2 = q) (kk : ZW l G nL X Q σ q lv' st) : ZW l G nL X Q σ pc lv (.int x :: st) := by
  subst hq
  intro H locs ls hP hL h1 h2 hl
  exact lv_istore C.x C.b hd hl hn hv (fun ls' hl' => kk H locs ls' hP hL h1 h2 hl')
theorem z_lload_n (C : ZC G own nm cc nL ret tb X d) {k : Fin 4} {i : Nat} (j : Nat) {x : Int64} (hd : decode cc pc = .ok (.lload_n k, 1)) (hi : (k : Nat) = i) (hv : lv[j]? = some (i, .long x)) (hq : pc + 1 = q) (kk : ZW l G nL X Q σ q lv (.long x :: st)) : ZW l G nL X Q σ pc lv st := by
  subst hq
  intro H locs ls hP hL h1 h2 hl
  exact lv_lload_n C.x C.b hd hi (lv_at hl j hv) (kk H locs ls hP hL h1 h2 hl)
theorem z_lload (C : ZC G own nm cc nL ret tb X d) {i : Nat} (j : Nat) {x : Int64} (hd : decode cc pc = .ok (.lload i, 2)) (hv : lv[j]? = some (i, .long x)) (hq : pc + 2 = q) (kk : ZW l G nL X Q σ q lv (.long x :: st)) : ZW l G nL X Q σ pc lv st := by
  subst hq
  intro H locs ls hP hL h1 h2 hl
  exact lv_lload C.x C.b hd (lv_at hl j hv) (kk H locs ls hP hL h1 h2 hl)
theorem z_lstore_n (C : ZC G own nm cc nL ret tb X d) {k : Fin 4} {i : Nat} {x : Int64} {lv' : List (Nat × Value)} (hd : decode cc pc = .ok (.lstore_n k, 1)) (hi : (k : Nat) = i) (hn : i + 1 < nL) (hv : (i, Value.long x) :: lv.filter (fun q => !(q.1 == i) && (!(q.1 == i + 1) && !(q.1 + 1 == i && q.2.category == 2))) = lv') (hq : pc + 1 = q) (kk : ZW l G nL X Q σ q lv' st) : ZW l G nL X Q σ pc lv (.long x :: st) := by
  subst hq
  intro H locs ls hP hL h1 h2 hl
  exact lv_lstore_n C.x C.b hd hi hl hn hv (fun ls' hl' => kk H locs ls' hP hL h1 h2 hl')
theorem z_lstore (C : ZC G own nm cc nL ret tb X d) {i : Nat} {x : Int64} {lv' : List (Nat × Value)} (hd : decode cc pc = .ok (.lstore i, 2)) (hn : i + 1 < nL) (hv : (i, Value.long x) :: lv.filter (fun q => !(q.1 == i) && (!(q.1 == i + 1) && !(q.1 + 1 == i && q.2.category == 2))) = lv') (hq : pc + 2 = q) (kk : ZW l G nL X Q σ q lv' st) : ZW l G nL X Q σ pc lv (.long x :: st) := by
  subst hq
  intro H locs ls hP hL h1 h2 hl
  exact lv_lstore C.x C.b hd hl hn hv (fun ls' hl' => kk H locs ls' hP hL h1 h2 hl')
theorem z_aload_n (C : ZC G own nm cc nL ret tb X d) {k : Fin 4} {i : Nat} (j : Nat) {x : Nat} (hd : decode cc pc = .ok (.aload_n k, 1)) (hi : (k : Nat) = i) (hv : lv[j]? = some (i, .ref x)) (hq : pc + 1 = q) (kk : ZW l G nL X Q σ q lv (.ref x :: st)) : ZW l G nL X Q σ pc lv st := by
  subst hq
  intro H locs ls hP hL h1 h2 hl
  exact lv_aload_n C.x C.b hd hi (lv_at hl j hv) (kk H locs ls hP hL h1 h2 hl)
theorem z_aload (C : ZC G own nm cc nL ret tb X d) {i : Nat} (j : Nat) {x : Nat} (hd : decode cc pc = .ok (.aload i, 2)) (hv : lv[j]? = some (i, .ref x)) (hq : pc + 2 = q) (kk : ZW l G nL X Q σ q lv (.ref x :: st)) : ZW l G nL X Q σ pc lv st := by
  subst hq
  intro H locs ls hP hL h1 h2 hl
  exact lv_aload C.x C.b hd (lv_at hl j hv) (kk H locs ls hP hL h1 h2 hl)
theorem z_astore_n (C : ZC G own nm cc nL ret tb X d) {k : Fin 4} {i : Nat} {x : Nat} {lv' : List (Nat × Value)} (hd : decode cc pc = .ok (.astore_n k, 1)) (hi : (k : Nat) = i) (hn : i < nL) (hv : (i, Value.ref x) :: lv.filter (fun q => !(q.1 == i) && !(q.1 + 1 == i && q.2.category == 2)) = lv') (hq : pc + 1 = q) (kk : ZW l G nL X Q σ q lv' st) : ZW l G nL X Q σ pc lv (.ref x :: st) := by
  subst hq
  intro H locs ls hP hL h1 h2 hl
  exact lv_astore_n C.x C.b hd hi hl hn hv (fun ls' hl' => kk H locs ls' hP hL h1 h2 hl')
theorem z_astore (C : ZC G own nm cc nL ret tb X d) {i : Nat} {x : Nat} {lv' : List (Nat × Value)} (hd : decode cc pc = .ok (.astore i, 2)) (hn : i < nL) (hv : (i, Value.ref x) :: lv.filter (fun q => !(q.1 == i) && !(q.1 + 1 == i && q.2.category == 2)) = lv') (hq : pc + 2 = q) (kk : ZW l G nL X Q σ q lv' st) : ZW l G nL X Q σ pc lv (.ref x :: st) := by
  subst hq
  intro H locs ls hP hL h1 h2 hl
  exact lv_astore C.x C.b hd hl hn hv (fun ls' hl' => kk H locs ls' hP hL h1 h2 hl')
theorem z_aload_nq (C : ZC G own nm cc nL ret tb X d) {k : Fin 4} {i : Nat} (j : Nat) {x : Option Nat} (hd : decode cc pc = .ok (.aload_n k, 1)) (hi : (k : Nat) = i) (hv : lv[j]? = some (i, va_rf x)) (hq : pc + 1 = q) (kk : ZW l G nL X Q σ q lv (va_rf x :: st)) : ZW l G nL X Q σ pc lv st := by
  cases x with
  | none => subst hq; intro H locs ls hP hL h1 h2 hl; exact lv_aload_nN C.x C.b hd hi (lv_at hl j hv) (kk H locs ls hP hL h1 h2 hl)
  | some x => exact z_aload_n C j hd hi hv hq kk
theorem z_aloadq (C : ZC G own nm cc nL ret tb X d) {i : Nat} (j : Nat) {x : Option Nat} (hd : decode cc pc = .ok (.aload i, 2)) (hv : lv[j]? = some (i, va_rf x)) (hq : pc + 2 = q) (kk : ZW l G nL X Q σ q lv (va_rf x :: st)) : ZW l G nL X Q σ pc lv st := by
  cases x with
  | none => subst hq; intro H locs ls hP hL h1 h2 hl; exact lv_aloadN C.x C.b hd (lv_at hl j hv) (kk H locs ls hP hL h1 h2 hl)
  | some x => exact z_aload C j hd hv hq kk
theorem z_iinc (C : ZC G own nm cc nL ret tb X d) {i : Nat} (j : Nat) {n : Int} {x : Int32} (v : Int32) {lv' : List (Nat × Value)} (hd : decode cc pc = .ok (.iinc i n, 3)) (hj : lv[j]? = some (i, .int x)) (hx : x + Int32.ofInt n = v) (hn : i < nL) (hv : (i, Value.int v) :: lv.filter (fun q => !(q.1 == i) && !(q.1 + 1 == i && q.2.category == 2)) = lv') (hq : pc + 3 = q) (kk : ZW l G nL X Q σ q lv' st) : ZW l G nL X Q σ pc lv st := by
  subst hq
  intro H locs ls hP hL h1 h2 hl
  exact lv_iinc C.x C.b hd hl hj hx hn hv (fun ls' hl' => kk H locs ls' hP hL h1 h2 hl')
theorem z_iadd (C : ZC G own nm cc nL ret tb X d) {x y : Int32} (hd : decode cc pc = .ok (.iadd, 1))  (hq : pc + 1 = q) (kk : ZW l G nL X Q σ q lv (.int (x + y) :: st)) : ZW l G nL X Q σ pc lv (.int y :: .int x :: st) := by
  subst hq
  intro H locs ls hP hL h1 h2 hl
  exact lv_iadd C.x C.b hd (kk H locs ls hP hL h1 h2 hl)
theorem z_isub (C : ZC G own nm cc nL ret tb X d) {x y : Int32} (hd : decode cc pc = .ok (.isub, 1))  (hq : pc + 1 = q) (kk : ZW l G nL X Q σ q lv (.int (x - y) :: st)) : ZW l G nL X Q σ pc lv (.int y :: .int x :: st) := by
  subst hq
  intro H locs ls hP hL h1 h2 hl
  exact lv_isub C.x C.b hd (kk H locs ls hP hL h1 h2 hl)
theorem z_imul (C : ZC G own nm cc nL ret tb X d) {x y : Int32} (hd : decode cc pc = .ok (.imul, 1))  (hq : pc + 1 = q) (kk : ZW l G nL X Q σ q lv (.int (x * y) :: st)) : ZW l G nL X Q σ pc lv (.int y :: .int x :: st) := by
  subst hq
  intro H locs ls hP hL h1 h2 hl
  exact lv_imul C.x C.b hd (kk H locs ls hP hL h1 h2 hl)
theorem z_iand (C : ZC G own nm cc nL ret tb X d) {x y : Int32} (hd : decode cc pc = .ok (.iand, 1))  (hq : pc + 1 = q) (kk : ZW l G nL X Q σ q lv (.int (x &&& y) :: st)) : ZW l G nL X Q σ pc lv (.int y :: .int x :: st) := by
  subst hq
  intro H locs ls hP hL h1 h2 hl
  exact lv_iand C.x C.b hd (kk H locs ls hP hL h1 h2 hl)
theorem z_ior (C : ZC G own nm cc nL ret tb X d) {x y : Int32} (hd : decode cc pc = .ok (.ior, 1))  (hq : pc + 1 = q) (kk : ZW l G nL X Q σ q lv (.int (x ||| y) :: st)) : ZW l G nL X Q σ pc lv (.int y :: .int x :: st) := by
  subst hq
  intro H locs ls hP hL h1 h2 hl
  exact lv_ior C.x C.b hd (kk H locs ls hP hL h1 h2 hl)
theorem z_ishl (C : ZC G own nm cc nL ret tb X d) {x y : Int32} (hd : decode cc pc = .ok (.ishl, 1))  (hq : pc + 1 = q) (kk : ZW l G nL X Q σ q lv (.int (x <<< (y &&& 31)) :: st)) : ZW l G nL X Q σ pc lv (.int y :: .int x :: st) := by
  subst hq
  intro H locs ls hP hL h1 h2 hl
  exact lv_ishl C.x C.b hd (kk H locs ls hP hL h1 h2 hl)
theorem z_ishr (C : ZC G own nm cc nL ret tb X d) {x y : Int32} (hd : decode cc pc = .ok (.ishr, 1))  (hq : pc + 1 = q) (kk : ZW l G nL X Q σ q lv (.int (x >>> (y &&& 31)) :: st)) : ZW l G nL X Q σ pc lv (.int y :: .int x :: st) := by
  subst hq
  intro H locs ls hP hL h1 h2 hl
  exact lv_ishr C.x C.b hd (kk H locs ls hP hL h1 h2 hl)
theorem z_ladd (C : ZC G own nm cc nL ret tb X d) {x y : Int64} (hd : decode cc pc = .ok (.ladd, 1))  (hq : pc + 1 = q) (kk : ZW l G nL X Q σ q lv (.long (x + y) :: st)) : ZW l G nL X Q σ pc lv (.long y :: .long x :: st) := by
  subst hq
  intro H locs ls hP hL h1 h2 hl
  exact lv_ladd C.x C.b hd (kk H locs ls hP hL h1 h2 hl)
theorem z_lsub (C : ZC G own nm cc nL ret tb X d) {x y : Int64} (hd : decode cc pc = .ok (.lsub, 1))  (hq : pc + 1 = q) (kk : ZW l G nL X Q σ q lv (.long (x - y) :: st)) : ZW l G nL X Q σ pc lv (.long y :: .long x :: st) := by
  subst hq
  intro H locs ls hP hL h1 h2 hl
  exact lv_lsub C.x C.b hd (kk H locs ls hP hL h1 h2 hl)
theorem z_lmul (C : ZC G own nm cc nL ret tb X d) {x y : Int64} (hd : decode cc pc = .ok (.lmul, 1))  (hq : pc + 1 = q) (kk : ZW l G nL X Q σ q lv (.long (x * y) :: st)) : ZW l G nL X Q σ pc lv (.long y :: .long x :: st) := by
  subst hq
  intro H locs ls hP hL h1 h2 hl
  exact lv_lmul C.x C.b hd (kk H locs ls hP hL h1 h2 hl)
theorem z_land (C : ZC G own nm cc nL ret tb X d) {x y : Int64} (hd : decode cc pc = .ok (.land, 1))  (hq : pc + 1 = q) (kk : ZW l G nL X Q σ q lv (.long (x &&& y) :: st)) : ZW l G nL X Q σ pc lv (.long y :: .long x :: st) := by
  subst hq
  intro H locs ls hP hL h1 h2 hl
  exact lv_land C.x C.b hd (kk H locs ls hP hL h1 h2 hl)
theorem z_lor (C : ZC G own nm cc nL ret tb X d) {x y : Int64} (hd : decode cc pc = .ok (.lor, 1))  (hq : pc + 1 = q) (kk : ZW l G nL X Q σ q lv (.long (x ||| y) :: st)) : ZW l G nL X Q σ pc lv (.long y :: .long x :: st) := by
  subst hq
  intro H locs ls hP hL h1 h2 hl
  exact lv_lor C.x C.b hd (kk H locs ls hP hL h1 h2 hl)
theorem z_lshl (C : ZC G own nm cc nL ret tb X d) {x : Int64} {y : Int32} (hd : decode cc pc = .ok (.lshl, 1))  (hq : pc + 1 = q) (kk : ZW l G nL X Q σ q lv (.long (x <<< (y.toInt64 &&& 63)) :: st)) : ZW l G nL X Q σ pc lv (.int y :: .long x :: st) := by
  subst hq
  intro H locs ls hP hL h1 h2 hl
  exact lv_lshl C.x C.b hd rfl (kk H locs ls hP hL h1 h2 hl)
theorem z_lshr (C : ZC G own nm cc nL ret tb X d) {x : Int64} {y : Int32} (hd : decode cc pc = .ok (.lshr, 1))  (hq : pc + 1 = q) (kk : ZW l G nL X Q σ q lv (.long (x >>> (y.toInt64 &&& 63)) :: st)) : ZW l G nL X Q σ pc lv (.int y :: .long x :: st) := by
  subst hq
  intro H locs ls hP hL h1 h2 hl
  exact lv_lshr C.x C.b hd rfl (kk H locs ls hP hL h1 h2 hl)
theorem z_lushr (C : ZC G own nm cc nL ret tb X d) {x : Int64} {y : Int32} (hd : decode cc pc = .ok (.lushr, 1))  (hq : pc + 1 = q) (kk : ZW l G nL X Q σ q lv (.long (x.toUInt64 >>> (y.toInt64.toUInt64 &&& Int64.toUInt64 63)).toInt64 :: st)) : ZW l G nL X Q σ pc lv (.int y :: .long x :: st) := by
  subst hq
  intro H locs ls hP hL h1 h2 hl
  exact lv_lushr C.x C.b hd rfl (kk H locs ls hP hL h1 h2 hl)
theorem z_lneg (C : ZC G own nm cc nL ret tb X d) {x : Int64} (hd : decode cc pc = .ok (.lneg, 1))  (hq : pc + 1 = q) (kk : ZW l G nL X Q σ q lv (.long (-x) :: st)) : ZW l G nL X Q σ pc lv (.long x :: st) := by
  subst hq
  intro H locs ls hP hL h1 h2 hl
  exact lv_lneg C.x C.b hd (kk H locs ls hP hL h1 h2 hl)
theorem z_i2l (C : ZC G own nm cc nL ret tb X d) {x : Int32} (hd : decode cc pc = .ok (.i2l, 1))  (hq : pc + 1 = q) (kk : ZW l G nL X Q σ q lv (.long x.toInt64 :: st)) : ZW l G nL X Q σ pc lv (.int x :: st) := by
  subst hq
  intro H locs ls hP hL h1 h2 hl
  exact lv_i2l C.x C.b hd rfl (kk H locs ls hP hL h1 h2 hl)
theorem z_l2i (C : ZC G own nm cc nL ret tb X d) {x : Int64} (hd : decode cc pc = .ok (.l2i, 1))  (hq : pc + 1 = q) (kk : ZW l G nL X Q σ q lv (.int x.toInt32 :: st)) : ZW l G nL X Q σ pc lv (.long x :: st) := by
  subst hq
  intro H locs ls hP hL h1 h2 hl
  exact lv_l2i C.x C.b hd rfl (kk H locs ls hP hL h1 h2 hl)
theorem z_i2b (C : ZC G own nm cc nL ret tb X d) {x : Int32} (hd : decode cc pc = .ok (.i2b, 1))  (hq : pc + 1 = q) (kk : ZW l G nL X Q σ q lv (.int x.toInt8.toInt32 :: st)) : ZW l G nL X Q σ pc lv (.int x :: st) := by
  subst hq
  intro H locs ls hP hL h1 h2 hl
  exact lv_i2b C.x C.b hd rfl (kk H locs ls hP hL h1 h2 hl)
theorem z_i2s (C : ZC G own nm cc nL ret tb X d) {x : Int32} (hd : decode cc pc = .ok (.i2s, 1))  (hq : pc + 1 = q) (kk : ZW l G nL X Q σ q lv (.int x.toInt16.toInt32 :: st)) : ZW l G nL X Q σ pc lv (.int x :: st) := by
  subst hq
  intro H locs ls hP hL h1 h2 hl
  exact lv_i2s C.x C.b hd rfl (kk H locs ls hP hL h1 h2 hl)
theorem z_i2c (C : ZC G own nm cc nL ret tb X d) {x : Int32} (hd : decode cc pc = .ok (.i2c, 1))  (hq : pc + 1 = q) (kk : ZW l G nL X Q σ q lv (.int (x.toUInt32 % 65536).toInt32 :: st)) : ZW l G nL X Q σ pc lv (.int x :: st) := by
  subst hq
  intro H locs ls hP hL h1 h2 hl
  exact lv_i2c C.x C.b hd rfl (kk H locs ls hP hL h1 h2 hl)
theorem z_lcmp (C : ZC G own nm cc nL ret tb X d) {x y : Int64} (hd : decode cc pc = .ok (.lcmp, 1))  (hq : pc + 1 = q) (kk : ZW l G nL X Q σ q lv (.int (lg_cmp x y) :: st)) : ZW l G nL X Q σ pc lv (.long y :: .long x :: st) := by
  subst hq
  intro H locs ls hP hL h1 h2 hl
  exact W.lcmp C.x C.b hd (kk H locs ls hP hL h1 h2 hl)
theorem z_dup (C : ZC G own nm cc nL ret tb X d) {v : Value} (hd : decode cc pc = .ok (.dup, 1)) (hv : v.category = 1) (hq : pc + 1 = q) (kk : ZW l G nL X Q σ q lv (v :: v :: st)) : ZW l G nL X Q σ pc lv (v :: st) := by
  subst hq
  intro H locs ls hP hL h1 h2 hl
  exact lv_dup C.x C.b hd hv (kk H locs ls hP hL h1 h2 hl)
theorem z_pop (C : ZC G own nm cc nL ret tb X d) {v : Value} (hd : decode cc pc = .ok (.pop, 1)) (hv : v.category = 1) (hq : pc + 1 = q) (kk : ZW l G nL X Q σ q lv st) : ZW l G nL X Q σ pc lv (v :: st) := by
  subst hq
  intro H locs ls hP hL h1 h2 hl
  exact lv_pop C.x C.b hd hv (kk H locs ls hP hL h1 h2 hl)
theorem z_dup2 (C : ZC G own nm cc nL ret tb X d) {u v : Value} (hd : decode cc pc = .ok (.dup2, 1)) (hu : u.category = 1) (hv : v.category = 1) (hq : pc + 1 = q) (kk : ZW l G nL X Q σ q lv (u :: v :: u :: v :: st)) : ZW l G nL X Q σ pc lv (u :: v :: st) := by
  subst hq
  intro H locs ls hP hL h1 h2 hl
  exact lv_dup2_11 C.x C.b hd hu hv (kk H locs ls hP hL h1 h2 hl)
theorem z_dup2l (C : ZC G own nm cc nL ret tb X d) {u : Value} (hd : decode cc pc = .ok (.dup2, 1)) (hu : u.category = 2) (hq : pc + 1 = q) (kk : ZW l G nL X Q σ q lv (u :: u :: st)) : ZW l G nL X Q σ pc lv (u :: st) := by
  subst hq
  intro H locs ls hP hL h1 h2 hl
  exact lv_dup2_2 C.x C.b hd hu (kk H locs ls hP hL h1 h2 hl)
theorem z_dupx1 (C : ZC G own nm cc nL ret tb X d) {u v : Value} (hd : decode cc pc = .ok (.dup_x1, 1)) (hu : u.category = 1) (hv : v.category = 1) (hq : pc + 1 = q) (kk : ZW l G nL X Q σ q lv (u :: v :: u :: st)) : ZW l G nL X Q σ pc lv (u :: v :: st) := by
  subst hq
  intro H locs ls hP hL h1 h2 hl
  exact lv_dup_x1 C.x C.b hd hu hv (kk H locs ls hP hL h1 h2 hl)
theorem z_goto (C : ZC G own nm cc nL ret tb X d) {off : Int} (hd : decode cc pc = .ok (.goto off, 3)) (ht : (pc : Int) + off = (q : Int)) (kk : ZW l G nL X Q σ q lv st) : ZW l G nL X Q σ pc lv st := by
  intro H locs ls hP hL h1 h2 hl
  exact lv_goto C.x C.b hd ht (kk H locs ls hP hL h1 h2 hl)
def zidiv (x y : Int32) : Option Int32 := if y = 0 then none else some (x / y)
theorem z_idiv {β : Type} {out : β} {kf : Int32 → Option β} (C : ZC G own nm cc nL ret tb X d) {x y : Int32} (hd : decode cc pc = .ok (.idiv, 1)) (hf : (zidiv x y).bind kf = some out) (hq : pc + 1 = q) (kk : ∀ v : Int32, kf v = some out → ZW l G nL X Q σ q lv (.int v :: st)) : ZW l G nL X Q σ pc lv (.int y :: .int x :: st) := by
  by_cases h0 : y = 0
  · simp [zidiv, h0] at hf
  · have hf : kf (x / y) = some out := by simpa [zidiv, h0] using hf
    subst hq
    intro H locs ls hP hL h1 h2 hl
    exact lv_idiv C.x C.b hd h0 (kk _ hf H locs ls hP hL h1 h2 hl)
def zirem (x y : Int32) : Option Int32 := if y = 0 then none else some (x - x / y * y)
theorem z_irem {β : Type} {out : β} {kf : Int32 → Option β} (C : ZC G own nm cc nL ret tb X d) {x y : Int32} (hd : decode cc pc = .ok (.irem, 1)) (hf : (zirem x y).bind kf = some out) (hq : pc + 1 = q) (kk : ∀ v : Int32, kf v = some out → ZW l G nL X Q σ q lv (.int v :: st)) : ZW l G nL X Q σ pc lv (.int y :: .int x :: st) := by
  by_cases h0 : y = 0
  · simp [zirem, h0] at hf
  · have hf : kf (x - x / y * y) = some out := by simpa [zirem, h0] using hf
    subst hq
    intro H locs ls hP hL h1 h2 hl
    exact lv_irem C.x C.b hd h0 (kk _ hf H locs ls hP hL h1 h2 hl)
def zldiv (x y : Int64) : Option Int64 := if y = 0 then none else some (x / y)
theorem z_ldiv {β : Type} {out : β} {kf : Int64 → Option β} (C : ZC G own nm cc nL ret tb X d) {x y : Int64} (hd : decode cc pc = .ok (.ldiv, 1)) (hf : (zldiv x y).bind kf = some out) (hq : pc + 1 = q) (kk : ∀ v : Int64, kf v = some out → ZW l G nL X Q σ q lv (.long v :: st)) : ZW l G nL X Q σ pc lv (.long y :: .long x :: st) := by
  by_cases h0 : y = 0
  · simp [zldiv, h0] at hf
  · have hf : kf (x / y) = some out := by simpa [zldiv, h0] using hf
    subst hq
    intro H locs ls hP hL h1 h2 hl
    exact lv_ldiv C.x C.b hd h0 (kk _ hf H locs ls hP hL h1 h2 hl)
def zlrem (x y : Int64) : Option Int64 := if y = 0 then none else some (x - x / y * y)
theorem z_lrem {β : Type} {out : β} {kf : Int64 → Option β} (C : ZC G own nm cc nL ret tb X d) {x y : Int64} (hd : decode cc pc = .ok (.lrem, 1)) (hf : (zlrem x y).bind kf = some out) (hq : pc + 1 = q) (kk : ∀ v : Int64, kf v = some out → ZW l G nL X Q σ q lv (.long v :: st)) : ZW l G nL X Q σ pc lv (.long y :: .long x :: st) := by
  by_cases h0 : y = 0
  · simp [zlrem, h0] at hf
  · have hf : kf (x - x / y * y) = some out := by simpa [zlrem, h0] using hf
    subst hq
    intro H locs ls hP hL h1 h2 hl
    exact lv_lrem C.x C.b hd h0 (kk _ hf H locs ls hP hL h1 h2 hl)
theorem z_ifeq {β : Type} {out : β} {A B : Option β} (C : ZC G own nm cc nL ret tb X d) {x : Int32} {off : Int} {tgt : Nat} (hd : decode cc pc = .ok (.ifCond .eq off, 3)) (ht : (pc : Int) + off = (tgt : Int)) (hq : pc + 3 = q) (hf : (if x = 0 then A else B) = some out) (kt : x = 0 → A = some out → ZW l G nL X Q σ tgt lv st) (kf : ¬ x = 0 → B = some out → ZW l G nL X Q σ q lv st) : ZW l G nL X Q σ pc lv (.int x :: st) := by
  subst hq
  intro H locs ls hP hL h1 h2 hl
  refine lv_if_eq C.x C.b hd ht (fun c => ?_) (fun c => ?_)
  · have c := c
    rw [if_pos c] at hf
    exact kt c hf H locs ls hP hL h1 h2 hl
  · have c := c
    rw [if_neg c] at hf
    exact kf c hf H locs ls hP hL h1 h2 hl
theorem z_ifne {β : Type} {out : β} {A B : Option β} (C : ZC G own nm cc nL ret tb X d) {x : Int32} {off : Int} {tgt : Nat} (hd : decode cc pc = .ok (.ifCond .ne off, 3)) (ht : (pc : Int) + off = (tgt : Int)) (hq : pc + 3 = q) (hf : (if x = 0 then A else B) = some out) (kt : ¬ x = 0 → B = some out → ZW l G nL X Q σ tgt lv st) (kf : x = 0 → A = some out → ZW l G nL X Q σ q lv st) : ZW l G nL X Q σ pc lv (.int x :: st) := by
  subst hq
  intro H locs ls hP hL h1 h2 hl
  refine lv_if_ne C.x C.b hd ht (fun c => ?_) (fun c => ?_)
  · have c := c
    rw [if_neg c] at hf
    exact kt c hf H locs ls hP hL h1 h2 hl
  · have c := c
    rw [if_pos c] at hf
    exact kf c hf H locs ls hP hL h1 h2 hl
theorem z_iflt {β : Type} {out : β} {A B : Option β} (C : ZC G own nm cc nL ret tb X d) {x : Int32} {off : Int} {tgt : Nat} (hd : decode cc pc = .ok (.ifCond .lt off, 3)) (ht : (pc : Int) + off = (tgt : Int)) (hq : pc + 3 = q) (hf : (if x < 0 then A else B) = some out) (kt : x < 0 → A = some out → ZW l G nL X Q σ tgt lv st) (kf : ¬ x < 0 → B = some out → ZW l G nL X Q σ q lv st) : ZW l G nL X Q σ pc lv (.int x :: st) := by
  subst hq
  intro H locs ls hP hL h1 h2 hl
  refine lv_if_lt C.x C.b hd ht (fun c => ?_) (fun c => ?_)
  · have c := c
    rw [if_pos c] at hf
    exact kt c hf H locs ls hP hL h1 h2 hl
  · have c := c
    rw [if_neg c] at hf
    exact kf c hf H locs ls hP hL h1 h2 hl
theorem z_ifge {β : Type} {out : β} {A B : Option β} (C : ZC G own nm cc nL ret tb X d) {x : Int32} {off : Int} {tgt : Nat} (hd : decode cc pc = .ok (.ifCond .ge off, 3)) (ht : (pc : Int) + off = (tgt : Int)) (hq : pc + 3 = q) (hf : (if x < 0 then A else B) = some out) (kt : ¬ x < 0 → B = some out → ZW l G nL X Q σ tgt lv st) (kf : x < 0 → A = some out → ZW l G nL X Q σ q lv st) : ZW l G nL X Q σ pc lv (.int x :: st) := by
  subst hq
  intro H locs ls hP hL h1 h2 hl
  refine lv_if_ge C.x C.b hd ht (fun c => ?_) (fun c => ?_)
  · have c := k2_nlt c
    rw [if_neg c] at hf
    exact kt c hf H locs ls hP hL h1 h2 hl
  · have c := k2_lt c
    rw [if_pos c] at hf
    exact kf c hf H locs ls hP hL h1 h2 hl
theorem z_ifgt {β : Type} {out : β} {A B : Option β} (C : ZC G own nm cc nL ret tb X d) {x : Int32} {off : Int} {tgt : Nat} (hd : decode cc pc = .ok (.ifCond .gt off, 3)) (ht : (pc : Int) + off = (tgt : Int)) (hq : pc + 3 = q) (hf : (if 0 < x then A else B) = some out) (kt : 0 < x → A = some out → ZW l G nL X Q σ tgt lv st) (kf : ¬ 0 < x → B = some out → ZW l G nL X Q σ q lv st) : ZW l G nL X Q σ pc lv (.int x :: st) := by
  subst hq
  intro H locs ls hP hL h1 h2 hl
  refine lv_if_gt C.x C.b hd ht (fun c => ?_) (fun c => ?_)
  · have c := c
    rw [if_pos c] at hf
    exact kt c hf H locs ls hP hL h1 h2 hl
  · have c := c
    rw [if_neg c] at hf
    exact kf c hf H locs ls hP hL h1 h2 hl
theorem z_ifle {β : Type} {out : β} {A B : Option β} (C : ZC G own nm cc nL ret tb X d) {x : Int32} {off : Int} {tgt : Nat} (hd : decode cc pc = .ok (.ifCond .le off, 3)) (ht : (pc : Int) + off = (tgt : Int)) (hq : pc + 3 = q) (hf : (if 0 < x then A else B) = some out) (kt : ¬ 0 < x → B = some out → ZW l G nL X Q σ tgt lv st) (kf : 0 < x → A = some out → ZW l G nL X Q σ q lv st) : ZW l G nL X Q σ pc lv (.int x :: st) := by
  subst hq
  intro H locs ls hP hL h1 h2 hl
  refine lv_if_le C.x C.b hd ht (fun c => ?_) (fun c => ?_)
  · have c := k2_nlt c
    rw [if_neg c] at hf
    exact kt c hf H locs ls hP hL h1 h2 hl
  · have c := k2_lt c
    rw [if_pos c] at hf
    exact kf c hf H locs ls hP hL h1 h2 hl
theorem z_icmpeq {β : Type} {out : β} {A B : Option β} (C : ZC G own nm cc nL ret tb X d) {x y : Int32} {off : Int} {tgt : Nat} (hd : decode cc pc = .ok (.if_icmp .eq off, 3)) (ht : (pc : Int) + off = (tgt : Int)) (hq : pc + 3 = q) (hf : (if x = y then A else B) = some out) (kt : x = y → A = some out → ZW l G nL X Q σ tgt lv st) (kf : ¬ x = y → B = some out → ZW l G nL X Q σ q lv st) : ZW l G nL X Q σ pc lv (.int y :: .int x :: st) := by
  subst hq
  intro H locs ls hP hL h1 h2 hl
  refine lv_icmp_eq C.x C.b hd ht (fun c => ?_) (fun c => ?_)
  · have c := c
    rw [if_pos c] at hf
    exact kt c hf H locs ls hP hL h1 h2 hl
  · have c := c
    rw [if_neg c] at hf
    exact kf c hf H locs ls hP hL h1 h2 hl
theorem z_icmpne {β : Type} {out : β} {A B : Option β} (C : ZC G own nm cc nL ret tb X d) {x y : Int32} {off : Int} {tgt : Nat} (hd : decode cc pc = .ok (.if_icmp .ne off, 3)) (ht : (pc : Int) + off = (tgt : Int)) (hq : pc + 3 = q) (hf : (if x = y then A else B) = some out) (kt : ¬ x = y → B = some out → ZW l G nL X Q σ tgt lv st) (kf : x = y → A = some out → ZW l G nL X Q σ q lv st) : ZW l G nL X Q σ pc lv (.int y :: .int x :: st) := by
  subst hq
  intro H locs ls hP hL h1 h2 hl
  refine lv_icmp_ne C.x C.b hd ht (fun c => ?_) (fun c => ?_)
  · have c := c
    rw [if_neg c] at hf
    exact kt c hf H locs ls hP hL h1 h2 hl
  · have c := c
    rw [if_pos c] at hf
    exact kf c hf H locs ls hP hL h1 h2 hl
theorem z_icmplt {β : Type} {out : β} {A B : Option β} (C : ZC G own nm cc nL ret tb X d) {x y : Int32} {off : Int} {tgt : Nat} (hd : decode cc pc = .ok (.if_icmp .lt off, 3)) (ht : (pc : Int) + off = (tgt : Int)) (hq : pc + 3 = q) (hf : (if x < y then A else B) = some out) (kt : x < y → A = some out → ZW l G nL X Q σ tgt lv st) (kf : ¬ x < y → B = some out → ZW l G nL X Q σ q lv st) : ZW l G nL X Q σ pc lv (.int y :: .int x :: st) := by
  subst hq
  intro H locs ls hP hL h1 h2 hl
  refine lv_icmp_lt C.x C.b hd ht (fun c => ?_) (fun c => ?_)
  · have c := c
    rw [if_pos c] at hf
    exact kt c hf H locs ls hP hL h1 h2 hl
  · have c := c
    rw [if_neg c] at hf
    exact kf c hf H locs ls hP hL h1 h2 hl
theorem z_icmpge {β : Type} {out : β} {A B : Option β} (C : ZC G own nm cc nL ret tb X d) {x y : Int32} {off : Int} {tgt : Nat} (hd : decode cc pc = .ok (.if_icmp .ge off, 3)) (ht : (pc : Int) + off = (tgt : Int)) (hq : pc + 3 = q) (hf : (if x < y then A else B) = some out) (kt : ¬ x < y → B = some out → ZW l G nL X Q σ tgt lv st) (kf : x < y → A = some out → ZW l G nL X Q σ q lv st) : ZW l G nL X Q σ pc lv (.int y :: .int x :: st) := by
  subst hq
  intro H locs ls hP hL h1 h2 hl
  refine lv_icmp_ge C.x C.b hd ht (fun c => ?_) (fun c => ?_)
  · have c := k2_nlt c
    rw [if_neg c] at hf
    exact kt c hf H locs ls hP hL h1 h2 hl
  · have c := k2_lt c
    rw [if_pos c] at hf
    exact kf c hf H locs ls hP hL h1 h2 hl
theorem z_icmpgt {β : Type} {out : β} {A B : Option β} (C : ZC G own nm cc nL ret tb X d) {x y : Int32} {off : Int} {tgt : Nat} (hd : decode cc pc = .ok (.if_icmp .gt off, 3)) (ht : (pc : Int) + off = (tgt : Int)) (hq : pc + 3 = q) (hf : (if y < x then A else B) = some out) (kt : y < x → A = some out → ZW l G nL X Q σ tgt lv st) (kf : ¬ y < x → B = some out → ZW l G nL X Q σ q lv st) : ZW l G nL X Q σ pc lv (.int y :: .int x :: st) := by
  subst hq
  intro H locs ls hP hL h1 h2 hl
  refine lv_icmp_gt C.x C.b hd ht (fun c => ?_) (fun c => ?_)
  · have c := c
    rw [if_pos c] at hf
    exact kt c hf H locs ls hP hL h1 h2 hl
  · have c := c
    rw [if_neg c] at hf
    exact kf c hf H locs ls hP hL h1 h2 hl
theorem z_icmple {β : Type} {out : β} {A B : Option β} (C : ZC G own nm cc nL ret tb X d) {x y : Int32} {off : Int} {tgt : Nat} (hd : decode cc pc = .ok (.if_icmp .le off, 3)) (ht : (pc : Int) + off = (tgt : Int)) (hq : pc + 3 = q) (hf : (if y < x then A else B) = some out) (kt : ¬ y < x → B = some out → ZW l G nL X Q σ tgt lv st) (kf : y < x → A = some out → ZW l G nL X Q σ q lv st) : ZW l G nL X Q σ pc lv (.int y :: .int x :: st) := by
  subst hq
  intro H locs ls hP hL h1 h2 hl
  refine lv_icmp_le C.x C.b hd ht (fun c => ?_) (fun c => ?_)
  · have c := k2_nlt c
    rw [if_neg c] at hf
    exact kt c hf H locs ls hP hL h1 h2 hl
  · have c := k2_lt c
    rw [if_pos c] at hf
    exact kf c hf H locs ls hP hL h1 h2 hl
def znl {β : Type} (r : Option Nat) (A B : Option β) : Option β := match r with
  | none => A
  | some _ => B
theorem z_ifnonnull {β : Type} {out : β} {A B : Option β} (C : ZC G own nm cc nL ret tb X d) {r : Option Nat} {off : Int} {tgt : Nat} (hd : decode cc pc = .ok (.ifnonnull off, 3)) (ht : (pc : Int) + off = (tgt : Int)) (hq : pc + 3 = q) (hf : znl r A B = some out) (kt : ∀ a : Nat, r = some a → B = some out → ZW l G nL X Q σ tgt lv st) (kf : r = none → A = some out → ZW l G nL X Q σ q lv st) : ZW l G nL X Q σ pc lv (va_rf r :: st) := by
  subst hq
  intro H locs ls hP hL h1 h2 hl
  cases r with
  | none =>
    have k := kf rfl hf H locs ls hP hL h1 h2 hl
    intro T hT X0
    obtain ⟨t, a, b⟩ := k T hT X0
    refine ⟨t, ?_, b⟩
    jvm_step X0.here [X0.here.top, C.x, C.b, hd, va_rf, Value.asRef?, ht]
    exact a
  | some a => exact lv_ifnonnull C.x C.b hd ht (kt a rfl hf H locs ls hP hL h1 h2 hl)
theorem z_ifnull {β : Type} {out : β} {A B : Option β} (C : ZC G own nm cc nL ret tb X d) {r : Option Nat} {off : Int} {tgt : Nat} (hd : decode cc pc = .ok (.ifnull off, 3)) (ht : (pc : Int) + off = (tgt : Int)) (hq : pc + 3 = q) (hf : znl r A B = some out) (kt : r = none → A = some out → ZW l G nL X Q σ tgt lv st) (kf : ∀ a : Nat, r = some a → B = some out → ZW l G nL X Q σ q lv st) : ZW l G nL X Q σ pc lv (va_rf r :: st) := by
  subst hq
  intro H locs ls hP hL h1 h2 hl
  cases r with
  | none =>
    have k := kt rfl hf H locs ls hP hL h1 h2 hl
    intro T hT X0
    obtain ⟨t, a, b⟩ := k T hT X0
    refine ⟨t, ?_, b⟩
    jvm_step X0.here [X0.here.top, C.x, C.b, hd, va_rf, Value.asRef?, ht]
    exact a
  | some a => exact lv_ifnull C.x C.b hd (kf a rfl hf H locs ls hP hL h1 h2 hl)
theorem z_lv {lv' : List (Nat × Value)} (ks : List Nat) (h : lv_pick lv ks = lv') (kk : ZW l G nL X Q σ pc lv' st) : ZW l G nL X Q σ pc lv st := fun H locs ls hP hL h1 h2 hl => kk H locs ls hP hL h1 h2 (lv_sub hl ks h)
theorem z_tableIn (C : ZC G own nm cc nL ret tb X d) {dflt lo hi : Int} {offs : Array Int} {len : Nat} {x : Int32} (k : Int) {off : Int} {tgt : Nat} (hd : decode cc pc = .ok (.tableswitch dflt lo hi offs, len)) (hx : x.toInt = k) (h1 : ¬ k < lo) (h2 : ¬ hi < k) (ho : offs[(k - lo).toNat]? = some off) (ht : (pc : Int) + off = (tgt : Int)) (kk : ZW l G nL X Q σ tgt lv st) : ZW l G nL X Q σ pc lv (.int x :: st) := by
  subst hx
  intro H locs ls hP hL g1 g2 hl
  exact lv_tableIn C.x C.b hd h1 h2 ho ht (kk H locs ls hP hL g1 g2 hl)
theorem z_tableOut (C : ZC G own nm cc nL ret tb X d) {dflt lo hi : Int} {offs : Array Int} {len : Nat} {x : Int32} {tgt : Nat} (hd : decode cc pc = .ok (.tableswitch dflt lo hi offs, len)) (h : x.toInt < lo ∨ hi < x.toInt) (ht : (pc : Int) + dflt = (tgt : Int)) (kk : ZW l G nL X Q σ tgt lv st) : ZW l G nL X Q σ pc lv (.int x :: st) := by
  intro H locs ls hP hL g1 g2 hl
  exact lv_tableOut C.x C.b hd h ht (kk H locs ls hP hL g1 g2 hl)
theorem z_ldc (C : ZC G own nm cc nL ret tb X d) {index : Nat} {v : Int32} (hw : Cond.constant own index v ∈ lw_all) (hd : decode cc pc = .ok (.ldc index, 2)) (hq : pc + 2 = q) (kk : ZW l G nL X Q σ q lv (.int v :: st)) : ZW l G nL X Q σ pc lv st := by
  subst hq
  intro H locs ls hP hL h1 h2 hl
  exact lv_ldc C.x C.b C.ow (C.w hw) hd (kk H locs ls hP hL h1 h2 hl)
theorem z_ldc2 (C : ZC G own nm cc nL ret tb X d) {index : Nat} {v : Int64} (hw : Cond.constantLong own index v ∈ lw_all) (hd : decode cc pc = .ok (.ldc2_w index, 3)) (hq : pc + 3 = q) (kk : ZW l G nL X Q σ q lv (.long v :: st)) : ZW l G nL X Q σ pc lv st := by
  subst hq
  intro H locs ls hP hL h1 h2 hl
  exact lv_ldc2 C.x C.b C.ow (C.w hw) hd (kk H locs ls hP hL h1 h2 hl)
end
