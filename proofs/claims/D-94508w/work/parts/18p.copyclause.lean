set_option maxRecDepth 100000
theorem zframes2 {p : Program} {l : Launch} {e : Env} {R : Room} {s : State} {m : MethodId} {args : Array Value} {below : List Frame} {meth : Method} {c : Code} {cells slots : Nat} {T : State} {locs : List Loc} (X : Stand p l e R s m args below meth c T locs cells slots) (g : JFrame) (a b : Frame) : (((T.setTop g).pushFrame a).pushFrame b) = T.setFrames (b :: a :: .java g :: below) := by
  obtain ⟨g₀, hg⟩ := Option.isSome_iff_exists.mp X.here.top
  obtain ⟨r, hr⟩ := State.topJava?_eq_some.mp hg
  have hb : r = below := by
    have := X.tail
    rw [hr] at this
    exact this
  subst hb
  have hcur : T.cur < T.threads.size := State.cur_lt_of_frames hr
  rw [State.setTop_of_frames _ hr]
  simp only [State.pushFrame, State.frames_setFrames _ hcur, State.setFrames_setFrames]
section
variable {l : Launch} {G : ZG} {own nm : String} {cc : ByteArray} {nL : Nat} {ret : Option FieldType} {tb : List (Nat × Nat × Nat × Nat)} {X : ZX} {d : Nat} {Q : State → Prop} {σ σ' : ZT} {pc q : Nat} {lv : List (Nat × Value)} {st rest : List Value} {β : Type} {out : β}
theorem z_cpyX_core (C : ZC G own nm cc nL ret tb X d) (hfl : l.flags = flags0) (hO : zOld G X) {f0 f1 : Nat → Value} {a b idx j n0 n1 : Nat} {i k n : Int32} (hj : j < 11) (hty : ((refKind (zAty j) != refKind (zAty j)) || (!refKind (zAty j) && zAty j != zAty j)) = false) (hkn : (Native.java_lang_System.arraycopy.kindName (zAty j)).toList.length ≤ 5)
    (w : Cond.methodLink own idx arraycopyName ∈ lw_all) (hd : decode cc pc = .ok (.invokestatic idx, 3)) (hd0 : 9 ≤ d) (hw : (rest.map fun v => v.category).sum ≤ 40)
    (hc0 : ∀ H : Heap, HP G σ H → H[a]? = some (arrV (gA G j) n0 f0)) (hc1 : ∀ H : Heap, HP G σ H → H[b]? = some (arrV (gA G j) n1 f1)) (h1 : ¬ i < 0) (h2 : ¬ k < 0) (h3 : ¬ n < 0) (hfa : n0 < i.toNatClampNeg + n.toNatClampNeg ∨ n1 < k.toNatClampNeg + n.toNatClampNeg) (hn0 : n0 ≤ 60) (hn1 : n1 ≤ 60)
    (hroom : 3 ≤ zbc σ ∧ 400 ≤ zbs σ) (kc : Nat) {r : Nat × Nat × Nat × Nat} (hk : tb[kc]? = some r) (hcov : covers (⟨r.1, r.2.1, r.2.2.1, r.2.2.2⟩ : ExceptionTableEntry) pc = true) (h0 : r.2.2.2 ≠ 0) (hz : kc = 0) (wl : Cond.classLink own r.2.2.2 "java/lang/IndexOutOfBoundsException" ∈ lw_all) (hpc : r.2.2.1 = q)
    (kk : ZW l G nL X Q (zgap σ 3 400) q lv [.ref (zsz σ + 2)]) : ZW l G nL X Q σ pc lv (.int n :: .int k :: .ref b :: .int i :: .ref a :: rest) := by
  intro H locs ls hP hL g1 g2 hl T hT X0
  have hP' : HP G σ T.heap := by rw [hT]; exact hP
  have hfr := C.fr
  have hlo := C.lo
  have hce := C.ce
  have hsl := C.sl
  have hnf := znfw
  have hA : ∀ w ∈ Bundle.messageArmAtoms Bundle.idxN Bundle.idxUp, w ∈ lw_all ∨ w ∈ zNw ∨ w ∈ zSts := zat_idx
  have c0 := hc0 _ hP'
  have c1 := hc1 _ hP'
  obtain ⟨-, k0, hk0, cm0, hkk0⟩ := (C.ar hj).1 n0 f0
  obtain ⟨-, k1, hk1, cm1, hkk1⟩ := (C.ar hj).1 n1 f1
  obtain ⟨vm', text, nf, t1, t2, t3, t4, t5, X', step⟩ := zarr_note X0 C.x C.ow (C.w w) (C.w q691) (C.w q690) (C.w q161) (src := a) (dst := b) (cs := arrV (gA G j) n0 f0) (cd := arrV (gA G j) n1 f1) (srcPos := i) (destPos := k) (n := n) c0 c1
    (fun _ h => by cases h) (fun _ h => by cases h) hk0 hk1 hkk0 hkk1 hty h1 h2 h3 (by rw [znn h1, znn h3, znn h2, arrV_size, arrV_size]; omega) (by rw [arrV_size]; exact hn0) (by rw [arrV_size]; exact hn1) hkn hkn
    (g := F0 (xm X) pc ls (.int n :: .int k :: .ref b :: .int i :: .ref a :: rest)) rfl (by rw [C.ml]; exact hl.1) (rest := rest) rfl (by rw [C.b]; exact hd) (by omega) (by show 2 * 0 + (rest.map fun v => v.category).sum + _ ≤ _; omega)
  have htr : (xe X).platform.stackTraces = false := by
    rw [X0.admits.platform]
    show l.stackTraces = false
    unfold Launch.stackTraces
    rw [hfl]
    decide +kernel
  have hlim : ¬ (stringBytes (stringToUtf16 text)).size > (xe X).platform.arrayLengthLimit := by
    rw [X0.admits.platform]
    show ¬ _ > ({} : Platform).arrayLengthLimit
    have : 390 ≤ ({} : Platform).arrayLengthLimit := by decide
    omega
  have hhp : ¬ (stringBytes (stringToUtf16 text)).size * componentBytes .byte > (xe X).platform.maxHeapBytes := by
    rw [X0.admits.platform]
    show ¬ _ > ({} : Platform).maxHeapBytes
    have h3 : 390 ≤ ({} : Platform).maxHeapBytes := by decide
    have h4 : componentBytes .byte = 1 := by decide
    rw [h4]
    omega
  have hsz : (F0 (xm X) pc ls rest).locals.size = (xc X).maxLocals := by rw [C.ml]; exact hl.1
  have hsz2 : (T.setVm vm').heap.size = zsz σ := hP'.1
  have hup : Bundle.idxUp.length ≤ 3 := by decide
  obtain ⟨U, L, Y, hLb, hst', z, oq, hcell⟩ := zvm_throwN X' C.x htr idx_ok.1 idx_ok.2.1 (by decide) (by decide) (zatoms C hO hA) (fun cf kf fi f a hf ha i hi => by
    obtain ⟨c', k', i', f', a', cell', g1, g2, g3, g4, g5, g6, g7, g8, g9, g10⟩ := C.S.2.2.2.2.2.2.1
    cases g2.symm.trans hf
    cases g4.symm.trans ha
    exact g10 (hL _ hi)) t1 hlim hhp (g := F0 (xm X) pc ls rest) rfl hsz (nf := nf) t3 t4 t5 (by omega) (by show 2 * 0 + (rest.map fun v => v.category).sum + 10240 ≤ _; omega) (by omega) (by omega) (n := 400) (by omega) (by omega)
  rw [hsz2] at hLb hst' hcell
  have hP1 : HP G (zgap σ 3 400) U.heap := hP'.gap (H1 := U.heap) z oq 400
  have hL1 : ∀ q ∈ locs ++ L, gb G ≤ q.base := by
    intro q hq
    rcases List.mem_append.mp hq with h | h
    · exact hL q h
    · rw [hLb q h]
      have := hP.2.1
      omega
  have e1 : xbc X - zbc (zgap σ 3 400) = xbc X - zbc σ + 3 := by show xbc X - (zbc σ - 3) = _; omega
  have e2 : xbs X - zbs (zgap σ 3 400) = xbs X - zbs σ + 400 := by show xbs X - (zbs σ - 400) = _; omega
  rw [← e1, ← e2] at Y
  obtain ⟨ca, ct, w1, w2, w3⟩ := Cond.castable_spec (C.nw (zNw_in q2289 rfl))
  subst hz
  obtain ⟨t, s1, s2⟩ := zcaught (pc := pc) (rest := rest) C 0 hk (tn := Bundle.idxN) (name := "java/lang/IndexOutOfBoundsException") hcov h0 (fun j hj => absurd hj (Nat.not_lt_zero j)) wl w1 w2 w3 hP1 hcell hL1 (by show zbc σ - 3 ≤ _; omega) (by show zbs σ - 400 ≤ _; omega) hl Y hpc kk
  refine ⟨t, step t ?_, s2⟩
  rw [zframes2 X']
  exact hst' t s1
end
theorem zathrow_push {p : Program} {l : Launch} {e : Env} {R : Room} {s : State} {m : MethodId} {args : Array Value} {below : List Frame} {meth : Method} {c : Code} {cells slots : Nat} {T : State} {locs : List Loc} (X : Stand p l e R s m args below meth c T locs cells slots) (hexec : p.tables.exec = Jvm.exec) {g : JFrame} (hg : g.method = m) {a : Addr} {rest : List Value} (hstack : g.stack = .ref a :: rest) (hdg : decode c.code g.pc = .ok (.athrow, 1)) :
    ∀ target, Steps p.tables e below ((T.setTop { g with stack := rest }).pushFrame (.throwing a)) target → Steps p.tables e below (T.setTop g) target := by
  intro target hrest
  subst hg
  jvm_step X.here [hexec, hdg, Op.athrow.wp_sem, hstack]
  exact hrest
/-- a copy between rows of the same width, as Objects -/
noncomputable def cpO (a : Nat) (i : Int32) (b : Nat) (k n : Int32) (σ : ZT) : Option ZT := @ite _ ((zK σ a = 21 ∨ zK σ a = 23 ∨ zK σ a = 24) ∧ zK σ b = zK σ a ∧ zcpB (zN σ a) (zN σ b) i k n ∧ ∀ x : Nat, x < n.toNatClampNeg → fits (zAty (zK σ a - 21)) (.int (zAI σ a (i.toNatClampNeg + x))) = true) (Classical.propDecidable _) (some (sAIr σ b (va_cpy (zAI σ a) (zAI σ b) i.toNatClampNeg k.toNatClampNeg n.toNatClampNeg)))
  (@ite _ (zK σ a = 22 ∧ zK σ b = 22 ∧ zcpB (zN σ a) (zN σ b) i k n) (Classical.propDecidable _) (some (sALr σ b (va_cpy (zAL σ a) (zAL σ b) i.toNatClampNeg k.toNatClampNeg n.toNatClampNeg))) none)
/-- beyond an end, and room for the exception -/
def cpF (a : Nat) (i : Int32) (b : Nat) (k n : Int32) (σ : ZT) : Prop := (21 ≤ zK σ a ∧ zK σ a ≤ 24) ∧ zK σ b = zK σ a ∧ ¬ i < 0 ∧ ¬ k < 0 ∧ ¬ n < 0 ∧ (zN σ a < i.toNatClampNeg + n.toNatClampNeg ∨ zN σ b < k.toNatClampNeg + n.toNatClampNeg) ∧ zN σ a ≤ 60 ∧ zN σ b ≤ 60 ∧ 3 ≤ zbc σ ∧ 400 ≤ zbs σ
noncomputable def zif {β : Type} (c : Prop) (x y : Option β) : Option β := @ite _ c (Classical.propDecidable _) x y
theorem zkn_ok : ∀ j, j < 4 → (Native.java_lang_System.arraycopy.kindName (zAty j)).toList.length ≤ 5 ∧ ((refKind (zAty j) != refKind (zAty j)) || (!refKind (zAty j) && zAty j != zAty j)) = false := by decide
section
variable {l : Launch} {G : ZG} {own nm : String} {cc : ByteArray} {nL : Nat} {ret : Option FieldType} {tb : List (Nat × Nat × Nat × Nat)} {X : ZX} {d : Nat} {Q : State → Prop} {σ σ' : ZT} {pc q : Nat} {lv : List (Nat × Value)} {st rest : List Value} {β : Type} {out : β}
theorem hp_alr {H H1 : Heap} (hP : HP G σ H) {a : Nat} {r : Nat → Int64} (hK : zK σ a = 22) (e : H1[a]? = some (arrV (gA G 1) (zN σ a) (fun x => .long (r x)))) (z : H1.size = H.size) (oq : ∀ q : Nat, q ≠ a → H1[q]? = H[q]?) : HP G (sALr σ a r) H1 := by
  refine hP.set (by omega) rfl rfl (fun b hb => zcell_ne rfl (fun _ => rfl) (fun _ => rfl) (fun _ => rfl) rfl (zrow_ne hb) rfl rfl) ?_ z oq
  unfold zcell
  rw [show zK (sALr σ a r) a = 21 + 1 from hK, if_neg (by omega), Nat.add_sub_cancel_left]
  show H1[a]? = some (vp_cell (gA G 1) (zN σ a, zarr (sALr σ a r) 1 a))
  have e2 : zarr (sALr σ a r) 1 a = .inr (.inl r) := by
    unfold zarr
    rw [if_pos rfl]
    show Sum.inr (Sum.inl (zrow (zAL σ) a r a)) = _
    rw [zrow_at]
  rw [e2, vp_cell_l]
  exact e
theorem z_cpyO {kf : ZT → Option β} (C : ZC G own nm cc nL ret tb X d) {a b idx : Nat} {i k n : Int32} (w : Cond.methodLink own idx arraycopyName ∈ lw_all) (hd : decode cc pc = .ok (.invokestatic idx, 3)) (hd0 : 0 < d) (hw : (rest.map fun v => v.category).sum ≤ 40) (hf : (cpO a i b k n σ).bind kf = some out) (hq : pc + 3 = q) (kk : ∀ σ' : ZT, kf σ' = some out → ZW l G nL X Q σ' q lv rest) : ZW l G nL X Q σ pc lv (.int n :: .int k :: .ref b :: .int i :: .ref a :: rest) := by
  unfold cpO at hf
  by_cases hc : (zK σ a = 21 ∨ zK σ a = 23 ∨ zK σ a = 24) ∧ zK σ b = zK σ a ∧ zcpB (zN σ a) (zN σ b) i k n ∧ ∀ x : Nat, x < n.toNatClampNeg → fits (zAty (zK σ a - 21)) (.int (zAI σ a (i.toNatClampNeg + x))) = true
  · rw [if_pos hc] at hf
    obtain ⟨h1, h2, h3, h4⟩ := hc
    intro H locs ls hP
    have go : ∀ j : Nat, j < 5 → j ≠ 1 → zK σ a = 21 + j → ((refKind (zAty j) != refKind (zAty j)) || (!refKind (zAty j) && zAty j != zAty j)) = false → (∀ E, zAty j ≠ .object E) → W (xp X) l (xe X) (xR X) (xs X) (xm X) (xa X) (xb X) (xmt X) (xc X) H locs (xbc X - zbc σ) (xbs X - zbs σ) Q (F0 (xm X) pc ls (.int n :: .int k :: .ref b :: .int i :: .ref a :: rest)) ∨ True := fun _ _ _ _ _ _ => Or.inr trivial
    have main : ∀ j : Nat, j < 5 → j ≠ 1 → zK σ a = 21 + j → ((refKind (zAty j) != refKind (zAty j)) || (!refKind (zAty j) && zAty j != zAty j)) = false → ZW l G nL X Q σ pc lv (.int n :: .int k :: .ref b :: .int i :: .ref a :: rest) := by
      intro j j1 j2 j3 j4
      intro H locs ls hP
      exact zcpy_core (σ' := sAIr σ b (va_cpy (zAI σ a) (zAI σ b) i.toNatClampNeg k.toNatClampNeg n.toNatClampNeg)) C (fun z => .int z) (j0 := j) (j1 := j) (by omega) (by omega) j4 w hd hd0 hw (fun H hP => hP.arI (j := j) j1 j2 j3) (fun H hP => hP.arI (j := j) j1 j2 (h2.trans j3)) h3 (hP.ge (a := b) (by omega))
        (fun H hP T vm' hT hal comp hcm x hx => ⟨by have := h4 x hx; rw [j3, Nat.add_sub_cancel_left] at this; exact this, trivial⟩) ⟨rfl, rfl⟩ (fun H H1 hP e z oq => hp_air hP (j := j) j1 j2 (h2.trans j3) e z oq) hq (kk _ hf) H locs ls hP
    clear go
    rcases h1 with h | h | h
    · exact main 0 (by decide) (by decide) h (by decide) H locs ls hP
    · exact main 2 (by decide) (by decide) h (by decide) H locs ls hP
    · exact main 3 (by decide) (by decide) h (by decide) H locs ls hP
  · rw [if_neg hc] at hf
    by_cases hc : zK σ a = 22 ∧ zK σ b = 22 ∧ zcpB (zN σ a) (zN σ b) i k n
    · rw [if_pos hc] at hf
      intro H locs ls hP
      exact zcpy_core (σ' := sALr σ b (va_cpy (zAL σ a) (zAL σ b) i.toNatClampNeg k.toNatClampNeg n.toNatClampNeg)) C (fun z => .long z) (j0 := 1) (j1 := 1) (by decide) (by decide) (by decide) w hd hd0 hw (fun H hP => hP.arL hc.1) (fun H hP => hP.arL hc.2.1) hc.2.2 (hP.ge (a := b) (by omega))
        (fun H hP T vm' hT hal comp hcm x hx => ⟨rfl, trivial⟩) ⟨rfl, rfl⟩ (fun H H1 hP e z oq => hp_alr hP hc.2.1 e z oq) hq (kk _ hf) H locs ls hP
    · rw [if_neg hc] at hf; cases hf
theorem z_cpyX (C : ZC G own nm cc nL ret tb X d) (hfl : l.flags = flags0) (hO : zOld G X) {a b idx : Nat} {i k n : Int32} (w : Cond.methodLink own idx arraycopyName ∈ lw_all) (hd : decode cc pc = .ok (.invokestatic idx, 3)) (hd0 : 9 ≤ d) (hw : (rest.map fun v => v.category).sum ≤ 40) (hF : cpF a i b k n σ)
    {r : Nat × Nat × Nat × Nat} (hk : tb[0]? = some r) (hcov : covers (⟨r.1, r.2.1, r.2.2.1, r.2.2.2⟩ : ExceptionTableEntry) pc = true) (h0 : r.2.2.2 ≠ 0) (wl : Cond.classLink own r.2.2.2 "java/lang/IndexOutOfBoundsException" ∈ lw_all) (hpc : r.2.2.1 = q)
    (kk : ZW l G nL X Q (zgap σ 3 400) q lv [.ref (zsz σ + 2)]) : ZW l G nL X Q σ pc lv (.int n :: .int k :: .ref b :: .int i :: .ref a :: rest) := by
  obtain ⟨h1, h2, h3, h4, h5, h6, h7, h8, h9⟩ := hF
  by_cases e1 : zK σ a = 22
  · exact z_cpyX_core (j := 1) (n0 := zN σ a) (n1 := zN σ b) (f0 := fun j => .long (zAL σ a j)) (f1 := fun j => .long (zAL σ b j)) C hfl hO (by decide) (by decide) (by decide) w hd hd0 hw (fun H hP => hP.arL e1) (fun H hP => hP.arL (h2.trans e1)) h3 h4 h5 h6 h7 h8 h9 0 hk hcov h0 rfl wl hpc kk
  · have hj : zK σ a = 21 + (zK σ a - 21) := by omega
    have hj1 : zK σ a - 21 < 4 := by omega
    have hk2 := zkn_ok _ hj1
    exact z_cpyX_core (j := zK σ a - 21) (n0 := zN σ a) (n1 := zN σ b) (f0 := fun j => .int (zAI σ a j)) (f1 := fun j => .int (zAI σ b j)) C hfl hO (by omega) hk2.2 hk2.1 w hd hd0 hw (fun H hP => hP.arI (by omega) (by omega) hj) (fun H hP => hP.arI (by omega) (by omega) (h2.trans hj)) h3 h4 h5 h6 h7 h8 h9 0 hk hcov h0 rfl wl hpc kk
theorem z_athrowC (C : ZC G own nm cc nL ret tb X d) {x : Nat} (hd : decode cc pc = .ok (.athrow, 1)) (k : Nat) {r : Nat × Nat × Nat × Nat} (hk : tb[k]? = some r) {ci N : Nat} {Tf : u_T} {Cn : String} (hkl : ZKl ci Cn Tf N) (hcov : covers (⟨r.1, r.2.1, r.2.2.1, r.2.2.2⟩ : ExceptionTableEntry) pc = true) (h0 : r.2.2.2 ≠ 0)
    (hpass : ∀ j, j < k → ∀ y, tb[j]? = some y → zPass (xa X) (xs X) own Cn pc (⟨y.1, y.2.1, y.2.2.1, y.2.2.2⟩ : ExceptionTableEntry)) (w : Cond.classLink own r.2.2.2 Cn ∈ lw_all) (wc : Cond.castable Cn Cn ∈ zNw)
    {kf : Option β} (hf : vc ci x σ kf = some out) (hpc : r.2.2.1 = q) (kk : kf = some out → ZW l G nL X Q σ q lv [.ref x]) : ZW l G nL X Q σ pc lv (.ref x :: rest) := by
  intro H locs ls hP hL h1 h2 hl T hT X0
  have hP' : HP G σ T.heap := by rw [hT]; exact hP
  obtain ⟨t, s1, s2⟩ := zcaughtO (pc := pc) (rest := rest) C k hk hkl hcov h0 hpass w wc hf hP' hL h1 h2 hl X0 hpc kk
  exact ⟨t, zathrow_push X0 C.x (g := F0 (xm X) pc ls (.ref x :: rest)) rfl rfl (by rw [C.b]; exact hd) t s1, s2⟩
end
