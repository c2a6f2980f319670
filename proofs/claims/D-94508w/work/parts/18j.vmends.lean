set_option maxRecDepth 100000
/-! ===== methods that end by an exception of the machine's ===== -/
def ZQX (G : ZG) (X : ZX) (cls : String) (x : Nat) (σ' : ZT) : State → Prop := fun t => ZQ G X (.threw x) σ' t ∧ ∃ cell : Cell, t.heap[x]? = some cell ∧ cell.vm.isStatics = false ∧ (xs X).vm.findClass cls = some cell.cls
def ZMX (l : Launch) (G : ZG) (y : MethodName) (cc : ByteArray) (nL : Nat) (ret : Option FieldType) (tb : List (Nat × Nat × Nat × Nat)) (d : Nat) (vs : List Value) (σ : ZT) (cls : String) (x : Nat) (σ' : ZT) : Prop :=
  ∀ X : ZX, ZC G y.cls y.name cc nL ret tb X d → xa X = vs.toArray → xbc X = zbc σ → xbs X = zbs σ → HP G σ (xs X).heap →
    W (xp X) l (xe X) (xR X) (xs X) (xm X) (xa X) (xb X) (xmt X) (xc X) (xs X).heap [] 0 0 (ZQX G X cls x σ') (entryFrame (xm X) (xa X) nL)
theorem ZMX.of {l : Launch} {G : ZG} {y : MethodName} {cc : ByteArray} {nL : Nat} {ret : Option FieldType} {tb : List (Nat × Nat × Nat × Nat)} {d : Nat} {vs : List Value} {σ : ZT} {cls : String} {x : Nat} {σ' : ZT} (lv : List (Nat × Value)) (hlv : lv_args 0 vs = lv) (hn : (lg_sl vs).length ≤ nL)
    (body : ∀ X : ZX, ZC G y.cls y.name cc nL ret tb X d → zOld G X → ZW l G nL X (ZQX G X cls x σ') σ 0 lv []) : ZMX l G y cc nL ret tb d vs σ cls x σ' := by
  intro X C ha hc hs hP
  have h := body X C hP.2.2.1 (xs X).heap [] _ hP (fun q h => by cases h) (by omega) (by omega) (hlv ▸ lv_entry vs hn)
  rw [hc, hs, Nat.sub_self, Nat.sub_self] at h
  rw [ha, lg_entry_eq]
  rw [ha] at h
  exact h
/-- a contract whose walk may look at the heap below gb G -/
theorem ZM.ofO {l : Launch} {G : ZG} {y : MethodName} {cc : ByteArray} {nL : Nat} {ret : Option FieldType} {tb : List (Nat × Nat × Nat × Nat)} {d : Nat} {vs : List Value} {σ : ZT} {o : Outcome} {σ' : ZT} (lv : List (Nat × Value)) (hlv : lv_args 0 vs = lv) (hn : (lg_sl vs).length ≤ nL)
    (body : ∀ X : ZX, ZC G y.cls y.name cc nL ret tb X d → zOld G X → ZW l G nL X (ZQ G X o σ') σ 0 lv []) : ZM l G y cc nL ret tb d vs σ o σ' := by
  intro X C ha hc hs hP
  have h := body X C hP.2.2.1 (xs X).heap [] _ hP (fun q h => by cases h) (by omega) (by omega) (hlv ▸ lv_entry vs hn)
  rw [hc, hs, Nat.sub_self, Nat.sub_self] at h
  rw [ha, lg_entry_eq]
  rw [ha] at h
  exact h
section
variable {l : Launch} {G : ZG} {own nm : String} {cc : ByteArray} {nL : Nat} {ret : Option FieldType} {tb : List (Nat × Nat × Nat × Nat)} {X : ZX} {d : Nat} {Q : State → Prop} {σ σ' : ZT} {pc q : Nat} {lv : List (Nat × Value)} {st rest : List Value} {β : Type} {out : β}
variable {y : MethodName} {cc' : ByteArray} {nL' : Nat} {ret' : Option FieldType} {tb' : List (Nat × Nat × Nat × Nat)} {d' : Nat} {vs : List Value}
theorem zthrowX (C : ZC G own nm cc nL ret tb X d) (hfl : l.flags = flags0) (hO : zOld G X) {cls : String} {names : List String} {text : String} (hcls : Bundle.fit cls = true) (hnames : ∀ n ∈ names, Bundle.fit n = true) (hsoe : (cls == "java/lang/StackOverflowError") = false) (hoom : (cls == "java/lang/OutOfMemoryError") = false)
    (hA : ∀ w ∈ Bundle.messageArmAtoms cls names, w ∈ lw_all ∨ w ∈ zNw ∨ w ∈ zSts) (hnl : names.length ≤ 3) (htext : (text == notModelled) = false) (hb : (stringBytes (stringToUtf16 text)).size ≤ 212) (hroom : 3 ≤ zbc σ ∧ 222 ≤ zbs σ) (hd : 8 ≤ d) (hst : (rest.map fun v => v.category).sum ≤ 60) (hc : (tableOf tb).all (fun y => !covers y pc) = true)
    (inv : ∀ (T : State) (locs : List Loc) (cells slots : Nat) (ls : Array Slot), HP G σ T.heap → Stand (xp X) l (xe X) (xR X) (xs X) (xm X) (xa X) (xb X) (xmt X) (xc X) T locs cells slots → ∀ target, Steps (xp X).tables (xe X) (xb X) ((T.setTop (F0 (xm X) pc ls rest)).pushFrame (.throwNew cls (some text) none)) target → Steps (xp X).tables (xe X) (xb X) (T.setTop (F0 (xm X) pc ls st)) target) :
    ZW l G nL X (ZQX G X cls (zsz σ + 2) (zgap σ 3 222)) σ pc lv st := by
  intro H locs ls hP hL h1 h2 hl T hT X0
  have hP' : HP G σ T.heap := by rw [hT]; exact hP
  obtain ⟨U, locs', u1, u2, u3, u4, u5, u6, cell, u7, u8, u9⟩ := zvm_at (pc := pc) (rest := rest) C hfl hO hcls hnames hsoe hoom hA hnl htext hb hroom hd hst hP' hL h1 h2 hl X0
  obtain ⟨a1, a2, a3, a4, a5⟩ := u5.leaveThrown (zsz σ + 2) (g := F0 (xm X) pc ls rest) rfl rfl rfl (outside_of_table C.tbl hc) C.lk
  refine ⟨_, inv T locs _ _ ls hP' X0 _ (u6 _ a1), ⟨a2, a3, a4, u1, u3, u4, locs', a5, u2⟩, cell, u7, u8, u9⟩
theorem idx_ok : Bundle.fit Bundle.idxN = true ∧ (∀ n ∈ Bundle.idxUp, Bundle.fit n = true) ∧ Bundle.fit zNase = true ∧ (∀ n ∈ zRun, Bundle.fit n = true) := by decide +kernel
theorem nase_text (n : Int32) : ((toString n) == notModelled) = false ∧ (stringBytes (stringToUtf16 (toString n))).size ≤ 212 := by
  have b1 := stringBytes_size_le (stringToUtf16 (toString n))
  have b2 := utf16_size_le (toString n)
  have b3 := int32_print n
  refine ⟨?_, by omega⟩
  rw [beq_eq_false_iff_ne]
  intro h
  rw [h] at b3
  exact absurd b3 (by decide)
theorem z_baldT (C : ZC G own nm cc nL ret tb X d) (hfl : l.flags = flags0) (hO : zOld G X) {a : Nat} {i : Int32} (hK : zK σ a = 23) (ho : i < 0 ∨ zN σ a ≤ i.toNatClampNeg) (hn : zN σ a ≤ 60) (hroom : 3 ≤ zbc σ ∧ 222 ≤ zbs σ) (hd8 : 8 ≤ d) (hst : (rest.map fun v => v.category).sum ≤ 60) (hc : (tableOf tb).all (fun y => !covers y pc) = true) (hd : decode cc pc = .ok (.baload, 1)) : ZW l G nL X (ZQX G X Bundle.idxN (zsz σ + 2) (zgap σ 3 222)) σ pc lv (.int i :: .ref a :: rest) := by
  refine zthrowX (text := toString "Index " ++ toString i ++ toString " out of bounds for length " ++ toString (zN σ a)) C hfl hO idx_ok.1 idx_ok.2.1 (by decide) (by decide) zat_idx (by decide) (index_text_modelled i _) (index_text_bytes i (by omega)) hroom hd8 hst hc fun T locs cells slots ls hP X0 target ht => ?_
  have hs : (arrV (gA G 2) (zN σ a) (fun k => .int (zAI σ a k))).slots.size = zN σ a := arrV_size ..
  refine X0.baloadOut C.x (hP.arI (j := 2) (by decide) (by decide) hK) ((C.ar (j := 2) (by decide)).1 _ _) (by show i < 0 ∨ (arrV _ _ _).slots.size ≤ _; rw [hs]; exact ho) (g := F0 (xm X) pc ls (.int i :: .ref a :: rest)) rfl rfl (by rw [C.b]; exact hd) target ?_
  have ht' := ht
  rw [← hs] at ht'
  exact ht'
theorem z_saldT (C : ZC G own nm cc nL ret tb X d) (hfl : l.flags = flags0) (hO : zOld G X) {a : Nat} {i : Int32} (hK : zK σ a = 24) (ho : i < 0 ∨ zN σ a ≤ i.toNatClampNeg) (hn : zN σ a ≤ 60) (hroom : 3 ≤ zbc σ ∧ 222 ≤ zbs σ) (hd8 : 8 ≤ d) (hst : (rest.map fun v => v.category).sum ≤ 60) (hc : (tableOf tb).all (fun y => !covers y pc) = true) (hd : decode cc pc = .ok (.saload, 1)) : ZW l G nL X (ZQX G X Bundle.idxN (zsz σ + 2) (zgap σ 3 222)) σ pc lv (.int i :: .ref a :: rest) := by
  refine zthrowX (text := toString "Index " ++ toString i ++ toString " out of bounds for length " ++ toString (zN σ a)) C hfl hO idx_ok.1 idx_ok.2.1 (by decide) (by decide) zat_idx (by decide) (index_text_modelled i _) (index_text_bytes i (by omega)) hroom hd8 hst hc fun T locs cells slots ls hP X0 target ht => ?_
  have hs : (arrV (gA G 3) (zN σ a) (fun k => .int (zAI σ a k))).slots.size = zN σ a := arrV_size ..
  refine X0.saloadOut C.x (hP.arI (j := 3) (by decide) (by decide) hK) ((C.ar (j := 3) (by decide)).1 _ _) (by show i < 0 ∨ (arrV _ _ _).slots.size ≤ _; rw [hs]; exact ho) (g := F0 (xm X) pc ls (.int i :: .ref a :: rest)) rfl rfl (by rw [C.b]; exact hd) target ?_
  have ht' := ht
  rw [← hs] at ht'
  exact ht'
theorem z_ialdT (C : ZC G own nm cc nL ret tb X d) (hfl : l.flags = flags0) (hO : zOld G X) {a : Nat} {i : Int32} (hK : zK σ a = 21) (ho : i < 0 ∨ zN σ a ≤ i.toNatClampNeg) (hn : zN σ a ≤ 60) (hroom : 3 ≤ zbc σ ∧ 222 ≤ zbs σ) (hd8 : 8 ≤ d) (hst : (rest.map fun v => v.category).sum ≤ 60) (hc : (tableOf tb).all (fun y => !covers y pc) = true) (hd : decode cc pc = .ok (.iaload, 1)) : ZW l G nL X (ZQX G X Bundle.idxN (zsz σ + 2) (zgap σ 3 222)) σ pc lv (.int i :: .ref a :: rest) := by
  refine zthrowX (text := toString "Index " ++ toString i ++ toString " out of bounds for length " ++ toString (zN σ a)) C hfl hO idx_ok.1 idx_ok.2.1 (by decide) (by decide) zat_idx (by decide) (index_text_modelled i _) (index_text_bytes i (by omega)) hroom hd8 hst hc fun T locs cells slots ls hP X0 target ht => ?_
  have hs : (arrV (gA G 0) (zN σ a) (fun k => .int (zAI σ a k))).slots.size = zN σ a := arrV_size ..
  refine X0.ialoadOut C.x (hP.arI (j := 0) (by decide) (by decide) hK) ((C.ar (j := 0) (by decide)).1 _ _) (by show i < 0 ∨ (arrV _ _ _).slots.size ≤ _; rw [hs]; exact ho) (g := F0 (xm X) pc ls (.int i :: .ref a :: rest)) rfl rfl (by rw [C.b]; exact hd) target ?_
  have ht' := ht
  rw [← hs] at ht'
  exact ht'
theorem z_laldT (C : ZC G own nm cc nL ret tb X d) (hfl : l.flags = flags0) (hO : zOld G X) {a : Nat} {i : Int32} (hK : zK σ a = 22) (ho : i < 0 ∨ zN σ a ≤ i.toNatClampNeg) (hn : zN σ a ≤ 60) (hroom : 3 ≤ zbc σ ∧ 222 ≤ zbs σ) (hd8 : 8 ≤ d) (hst : (rest.map fun v => v.category).sum ≤ 60) (hc : (tableOf tb).all (fun y => !covers y pc) = true) (hd : decode cc pc = .ok (.laload, 1)) : ZW l G nL X (ZQX G X Bundle.idxN (zsz σ + 2) (zgap σ 3 222)) σ pc lv (.int i :: .ref a :: rest) := by
  refine zthrowX (text := toString "Index " ++ toString i ++ toString " out of bounds for length " ++ toString (zN σ a)) C hfl hO idx_ok.1 idx_ok.2.1 (by decide) (by decide) zat_idx (by decide) (index_text_modelled i _) (index_text_bytes i (by omega)) hroom hd8 hst hc fun T locs cells slots ls hP X0 target ht => ?_
  have hs : (arrV (gA G 1) (zN σ a) (fun k => .long (zAL σ a k))).slots.size = zN σ a := arrV_size ..
  refine X0.laloadOut C.x (hP.arL hK) ((C.ar (j := 1) (by decide)).1 _ _) (by show i < 0 ∨ (arrV _ _ _).slots.size ≤ _; rw [hs]; exact ho) (g := F0 (xm X) pc ls (.int i :: .ref a :: rest)) rfl rfl (by rw [C.b]; exact hd) target ?_
  have ht' := ht
  rw [← hs] at ht'
  exact ht'
theorem z_bastT (C : ZC G own nm cc nL ret tb X d) (hfl : l.flags = flags0) (hO : zOld G X) {a : Nat} {i : Int32} {x : Int32} (hK : zK σ a = 23) (ho : i < 0 ∨ zN σ a ≤ i.toNatClampNeg) (hn : zN σ a ≤ 60) (hroom : 3 ≤ zbc σ ∧ 222 ≤ zbs σ) (hd8 : 8 ≤ d) (hst : (rest.map fun v => v.category).sum ≤ 60) (hc : (tableOf tb).all (fun y => !covers y pc) = true) (hd : decode cc pc = .ok (.bastore, 1)) : ZW l G nL X (ZQX G X Bundle.idxN (zsz σ + 2) (zgap σ 3 222)) σ pc lv (.int x :: .int i :: .ref a :: rest) := by
  refine zthrowX (text := toString "Index " ++ toString i ++ toString " out of bounds for length " ++ toString (zN σ a)) C hfl hO idx_ok.1 idx_ok.2.1 (by decide) (by decide) zat_idx (by decide) (index_text_modelled i _) (index_text_bytes i (by omega)) hroom hd8 hst hc fun T locs cells slots ls hP X0 target ht => ?_
  have hs : (arrV (gA G 2) (zN σ a) (fun k => .int (zAI σ a k))).slots.size = zN σ a := arrV_size ..
  refine X0.bastoreOut C.x (hP.arI (j := 2) (by decide) (by decide) hK) ((C.ar (j := 2) (by decide)).1 _ _) (by show i < 0 ∨ (arrV _ _ _).slots.size ≤ _; rw [hs]; exact ho) (g := F0 (xm X) pc ls (.int x :: .int i :: .ref a :: rest)) rfl rfl (by rw [C.b]; exact hd) target ?_
  have ht' := ht
  rw [← hs] at ht'
  exact ht'
theorem z_sastT (C : ZC G own nm cc nL ret tb X d) (hfl : l.flags = flags0) (hO : zOld G X) {a : Nat} {i : Int32} {x : Int32} (hK : zK σ a = 24) (ho : i < 0 ∨ zN σ a ≤ i.toNatClampNeg) (hn : zN σ a ≤ 60) (hroom : 3 ≤ zbc σ ∧ 222 ≤ zbs σ) (hd8 : 8 ≤ d) (hst : (rest.map fun v => v.category).sum ≤ 60) (hc : (tableOf tb).all (fun y => !covers y pc) = true) (hd : decode cc pc = .ok (.sastore, 1)) : ZW l G nL X (ZQX G X Bundle.idxN (zsz σ + 2) (zgap σ 3 222)) σ pc lv (.int x :: .int i :: .ref a :: rest) := by
  refine zthrowX (text := toString "Index " ++ toString i ++ toString " out of bounds for length " ++ toString (zN σ a)) C hfl hO idx_ok.1 idx_ok.2.1 (by decide) (by decide) zat_idx (by decide) (index_text_modelled i _) (index_text_bytes i (by omega)) hroom hd8 hst hc fun T locs cells slots ls hP X0 target ht => ?_
  have hs : (arrV (gA G 3) (zN σ a) (fun k => .int (zAI σ a k))).slots.size = zN σ a := arrV_size ..
  refine X0.sastoreOut C.x (hP.arI (j := 3) (by decide) (by decide) hK) ((C.ar (j := 3) (by decide)).1 _ _) (by show i < 0 ∨ (arrV _ _ _).slots.size ≤ _; rw [hs]; exact ho) (g := F0 (xm X) pc ls (.int x :: .int i :: .ref a :: rest)) rfl rfl (by rw [C.b]; exact hd) target ?_
  have ht' := ht
  rw [← hs] at ht'
  exact ht'
theorem z_iastT (C : ZC G own nm cc nL ret tb X d) (hfl : l.flags = flags0) (hO : zOld G X) {a : Nat} {i : Int32} {x : Int32} (hK : zK σ a = 21) (ho : i < 0 ∨ zN σ a ≤ i.toNatClampNeg) (hn : zN σ a ≤ 60) (hroom : 3 ≤ zbc σ ∧ 222 ≤ zbs σ) (hd8 : 8 ≤ d) (hst : (rest.map fun v => v.category).sum ≤ 60) (hc : (tableOf tb).all (fun y => !covers y pc) = true) (hd : decode cc pc = .ok (.iastore, 1)) : ZW l G nL X (ZQX G X Bundle.idxN (zsz σ + 2) (zgap σ 3 222)) σ pc lv (.int x :: .int i :: .ref a :: rest) := by
  refine zthrowX (text := toString "Index " ++ toString i ++ toString " out of bounds for length " ++ toString (zN σ a)) C hfl hO idx_ok.1 idx_ok.2.1 (by decide) (by decide) zat_idx (by decide) (index_text_modelled i _) (index_text_bytes i (by omega)) hroom hd8 hst hc fun T locs cells slots ls hP X0 target ht => ?_
  have hs : (arrV (gA G 0) (zN σ a) (fun k => .int (zAI σ a k))).slots.size = zN σ a := arrV_size ..
  refine X0.iastoreOut C.x (hP.arI (j := 0) (by decide) (by decide) hK) ((C.ar (j := 0) (by decide)).1 _ _) (by show i < 0 ∨ (arrV _ _ _).slots.size ≤ _; rw [hs]; exact ho) (g := F0 (xm X) pc ls (.int x :: .int i :: .ref a :: rest)) rfl rfl (by rw [C.b]; exact hd) target ?_
  have ht' := ht
  rw [← hs] at ht'
  exact ht'
theorem z_lastT (C : ZC G own nm cc nL ret tb X d) (hfl : l.flags = flags0) (hO : zOld G X) {a : Nat} {i : Int32} {x : Int64} (hK : zK σ a = 22) (ho : i < 0 ∨ zN σ a ≤ i.toNatClampNeg) (hn : zN σ a ≤ 60) (hroom : 3 ≤ zbc σ ∧ 222 ≤ zbs σ) (hd8 : 8 ≤ d) (hst : (rest.map fun v => v.category).sum ≤ 60) (hc : (tableOf tb).all (fun y => !covers y pc) = true) (hd : decode cc pc = .ok (.lastore, 1)) : ZW l G nL X (ZQX G X Bundle.idxN (zsz σ + 2) (zgap σ 3 222)) σ pc lv (.long x :: .int i :: .ref a :: rest) := by
  refine zthrowX (text := toString "Index " ++ toString i ++ toString " out of bounds for length " ++ toString (zN σ a)) C hfl hO idx_ok.1 idx_ok.2.1 (by decide) (by decide) zat_idx (by decide) (index_text_modelled i _) (index_text_bytes i (by omega)) hroom hd8 hst hc fun T locs cells slots ls hP X0 target ht => ?_
  have hs : (arrV (gA G 1) (zN σ a) (fun k => .long (zAL σ a k))).slots.size = zN σ a := arrV_size ..
  refine X0.lastoreOut C.x (hP.arL hK) ((C.ar (j := 1) (by decide)).1 _ _) (by show i < 0 ∨ (arrV _ _ _).slots.size ≤ _; rw [hs]; exact ho) (g := F0 (xm X) pc ls (.long x :: .int i :: .ref a :: rest)) rfl rfl (by rw [C.b]; exact hd) target ?_
  have ht' := ht
  rw [← hs] at ht'
  exact ht'
theorem z_newarrT (C : ZC G own nm cc nL ret tb X d) (hfl : l.flags = flags0) (hO : zOld G X) {n : Int32} {at0 : ArrayType} (hn : n < 0) (hroom : 3 ≤ zbc σ ∧ 222 ≤ zbs σ) (hd8 : 8 ≤ d) (hst : (rest.map fun v => v.category).sum ≤ 60) (hc : (tableOf tb).all (fun y => !covers y pc) = true) (hd : decode cc pc = .ok (.newarray at0, 2)) : ZW l G nL X (ZQX G X zNase (zsz σ + 2) (zgap σ 3 222)) σ pc lv (.int n :: rest) := by
  refine zthrowX (text := toString n) C hfl hO idx_ok.2.2.1 idx_ok.2.2.2 (by decide) (by decide) zat_nase (by decide) (nase_text n).1 (nase_text n).2 hroom hd8 hst hc fun T locs cells slots ls hP X0 target ht => ?_
  exact X0.newarrayNegative C.x (g := F0 (xm X) pc ls (.int n :: rest)) rfl hn rfl (by rw [C.b]; exact hd) target ht
/-- the callee ends by an exception of the machine's: the note lies on the frame, the object is of the class cls -/
theorem zcall_goX (C : ZC G own nm cc nL ret tb X d) {x : Nat} {cls : String} (hM : ZMX l G y cc' nL' ret' tb' d' vs σ cls x σ') (hd' : d' < d) (hy : plainName y.cls = true) (hcode : ZCode y cc' nL' ret' tb') {ig : Instr} (hdg : decode cc pc = .ok (ig, 3)) (hw : (rest.map fun v => v.category).sum + (nL' + 11) ≤ 60)
    (inv : ∀ (H : Heap) (ls : Array Slot), HP G σ H → ZInv l X y vs pc st rest H ls)
    (kk : ∀ (T : State) (locs : List Loc) (ls : Array Slot), HP G σ' T.heap → (∃ cell : Cell, T.heap[x]? = some cell ∧ cell.vm.isStatics = false ∧ (xs X).vm.findClass cls = some cell.cls) → (∀ q ∈ locs, gb G ≤ q.base) → zbc σ' ≤ xbc X → zbs σ' ≤ xbs X → lv_has ls nL lv → Stand (xp X) l (xe X) (xR X) (xs X) (xm X) (xa X) (xb X) (xmt X) (xc X) T locs (xbc X - zbc σ') (xbs X - zbs σ') →
      ∃ t, Steps (xp X).tables (xe X) (xb X) ((T.setTop (F0 (xm X) pc ls rest)).pushFrame (.throwing x)) t ∧ Q t) : ZW l G nL X Q σ pc lv st := by
  intro H locs ls hP hL h1 h2 hl
  intro T hT X0
  obtain ⟨mk, vm₁, hn, X1, hst⟩ := inv H ls hP T locs _ _ hT X0
  have hfr := C.fr
  have hlo := C.lo
  have hce := C.ce
  have hsl := C.sl
  have K := C.K
  have hsz : (F0 (xm X) pc ls rest).locals.size = (xc X).maxLocals := by rw [C.ml]; exact hl.1
  have hdg' : decode (xc X).code (F0 (xm X) pc ls rest).pc = .ok (ig, 3) := by rw [C.b]; exact hdg
  have hPT : HP G σ (T.setVm vm₁).heap := by rw [← hT] at hP; exact hP
  obtain ⟨methk, ck, m1, m2, m3, m4, m5, m6, m7, m8⟩ := hcode.spec K hn
  have hal := X1.warmed.alike
  have hmk : (T.setVm vm₁).vm.method? mk = some methk := by rw [hal.method?]; exact m1
  have hpk : (T.setVm vm₁).plainMethod mk := X1.warmed.plainAt fun k hk => by
    obtain ⟨k', hk', hkn⟩ := className_of_methodNamed hn
    cases hk.symm.trans hk'
    rw [hkn]; exact hy
  obtain ⟨Y, hin⟩ := X1.into (g := F0 (xm X) pc ls rest) rfl hsz hdg' vs.toArray (R' := { frames := (xR X).frames - 1, cells := zbc σ, slots := zbs σ, locals := (xR X).locals - 60 }) hmk m2 m6 hpk (by show (xR X).frames - 1 + 1 ≤ _; omega) (by show 2 * 0 + (rest.map fun v => v.category).sum + (ck.maxLocals + 11) + ((xR X).locals - 60) ≤ _; rw [m4]; omega) (by show xbc X - zbc σ + zbc σ ≤ _; omega) (by show xbs X - zbs σ + zbs σ ≤ _; omega)
  have hWk : (xs X).WarmedH ((T.setVm vm₁).calling (F0 (xm X) pc ls rest) mk vs.toArray).vm := X1.warmed
  have Kk : KK G ((T.setVm vm₁).calling (F0 (xm X) pc ls rest) mk vs.toArray) := K.moved hWk
  have hown : ((T.setVm vm₁).calling (F0 (xm X) pc ls rest) mk vs.toArray).vm.findClass y.cls = some mk.cls := by
    have h0 := findClass_of_methodNamed hn
    rw [← hal.findClass] at h0
    exact h0
  have Cc : ZC G y.cls y.name cc' nL' ret' tb' (xp X, xe X, { frames := (xR X).frames - 1, cells := zbc σ, slots := zbs σ, locals := (xR X).locals - 60 }, (T.setVm vm₁).calling (F0 (xm X) pc ls rest) mk vs.toArray, mk, vs.toArray, .java (F0 (xm X) pc ls rest) :: xb X, methk, ck, zbc σ, zbs σ) d' :=
    ⟨C.x, m3, m4, hown, Kk, m6, m5, m7, by show d' ≤ (xR X).frames - 1; omega, by show 11000 + 60 * d' ≤ (xR X).locals - 60; omega, Nat.le_refl _, Nat.le_refl _, (name_of_methodNamed hn m1).1⟩
  obtain ⟨t, ht, ⟨-, q2, q3, q4, q5, q6, L, q7, q8⟩, cell, w1, w2, w3⟩ := hM _ Cc rfl rfl rfl hPT (((T.setVm vm₁).setTop (F0 (xm X) pc ls rest)).pushFrame (.java (entryFrame mk vs.toArray ck.maxLocals))) rfl Y
  have q2 : Ended t (.java (F0 (xm X) pc ls rest) :: xb X) (.threw x) := q2
  have t1 : ∀ acts, Steps (xp X).tables (xe X) (xb X) (doInvoke (xe X) ((T.setVm vm₁).setTop (F0 (xm X) pc ls rest)) acts mk vs.toArray).1 t := fun acts => by
    rw [hin acts]
    have ht : Steps (xp X).tables (xe X) (.java (F0 (xm X) pc ls rest) :: xb X) ((((T.setVm vm₁).setTop (F0 (xm X) pc ls rest)).pushFrame (.java (entryFrame mk vs.toArray ck.maxLocals))).setTop (entryFrame mk vs.toArray nL')) t := ht
    rw [← m4] at ht
    exact Steps.weaken (mid := [.java (F0 (xm X) pc ls rest)]) ht
  have hw3 : (xs X).vm.findClass cls = some cell.cls := by
    have h0 : (T.setVm vm₁).vm.findClass cls = some cell.cls := w3
    rw [hal.findClass] at h0
    exact h0
  have q5 : zbc σ' ≤ zbc σ := q5
  have q6 : zbs σ' ≤ zbs σ := q6
  obtain ⟨T', X', -, -, e⟩ := X1.outOfThrown (g := F0 (xm X) pc ls rest) rfl q2 q3 q7
  have e2 : t.heap = T'.heap := by rw [e]; rfl
  have hP' : HP G σ' T'.heap := by rw [← e2]; exact q4
  have X' : Stand (xp X) l (xe X) (xR X) (xs X) (xm X) (xa X) (xb X) (xmt X) (xc X) T' (locs ++ L) (xbc X - zbc σ + (zbc σ - zbc σ')) (xbs X - zbs σ + (zbs σ - zbs σ')) := X'
  rw [show xbc X - zbc σ + (zbc σ - zbc σ') = xbc X - zbc σ' by omega, show xbs X - zbs σ + (zbs σ - zbs σ') = xbs X - zbs σ' by omega] at X'
  obtain ⟨t', a1, b1⟩ := kk T' (locs ++ L) ls hP' ⟨cell, by rw [← e2]; exact w1, w2, hw3⟩ (t_lL hL q8) (by omega) (by omega) hl X'
  refine ⟨t', hst _ (fun acts => (t1 acts).trans ?_), b1⟩
  rw [e]
  exact a1
end
