set_option maxRecDepth 100000
/-! ===== fields of Block, in a Loop or a When ===== -/
def gIB (f a : Nat) (σ : ZT) : Option Int32 := if zK σ a = 17 then gI 16 f a σ else gI 17 f a σ
def gRB (f a : Nat) (σ : ZT) : Option Nat := if zK σ a = 17 then gR 16 f a σ else gR 17 f a σ
def pIB (f a : Nat) (v : Int32) (σ : ZT) : Option ZT := if zK σ a = 17 then pI 16 f a v σ else pI 17 f a v σ
def pRB (f a : Nat) (v : Option Nat) (σ : ZT) : Option ZT := if zK σ a = 17 then pR 16 f a v σ else pR 17 f a v σ
/-- a Loop or a When -/
def vc2 {α : Type} (b : Nat) (σ : ZT) (x : Option α) : Option α := if zK σ b = 17 ∨ zK σ b = 18 then x else none
/-- any step -/
def vc4 {α : Type} (b : Nat) (σ : ZT) (x : Option α) : Option α := if zK σ b = 17 ∨ zK σ b = 18 ∨ zK σ b = 19 ∨ zK σ b = 20 then x else none
/-! ===== outcomes of methods that may throw ===== -/
def zoi (o : (Nat × ZT) ⊕ (Int32 × ZT)) : Outcome := match o with
  | .inl p => .threw p.1
  | .inr r => .returned (some (.int r.1))
def zsi (o : (Nat × ZT) ⊕ (Int32 × ZT)) : ZT := match o with
  | .inl p => p.2
  | .inr r => r.2
def zol (o : (Nat × ZT) ⊕ (Int64 × ZT)) : Outcome := match o with
  | .inl p => .threw p.1
  | .inr r => .returned (some (.long r.1))
def zsl (o : (Nat × ZT) ⊕ (Int64 × ZT)) : ZT := match o with
  | .inl p => p.2
  | .inr r => r.2
def zor (o : (Nat × ZT) ⊕ (Nat × ZT)) : Outcome := match o with
  | .inl p => .threw p.1
  | .inr r => .returned (some (.ref r.1))
def zsr (o : (Nat × ZT) ⊕ (Nat × ZT)) : ZT := match o with
  | .inl p => p.2
  | .inr r => r.2
def zov (o : (Nat × ZT) ⊕ ZT) : Outcome := match o with
  | .inl p => .threw p.1
  | .inr _ => .returned none
def zsv (o : (Nat × ZT) ⊕ ZT) : ZT := match o with
  | .inl p => p.2
  | .inr r => r
def bndX {α β : Type} (x : Option ((Nat × ZT) ⊕ (α × ZT))) (t : Nat → ZT → Option β) (k : α → ZT → Option β) : Option β := match x with
  | none => none
  | some (.inl p) => t p.1 p.2
  | some (.inr r) => k r.1 r.2
def bndXv {β : Type} (x : Option ((Nat × ZT) ⊕ ZT)) (t : Nat → ZT → Option β) (k : ZT → Option β) : Option β := match x with
  | none => none
  | some (.inl p) => t p.1 p.2
  | some (.inr r) => k r
section
variable {l : Launch} {G : ZG} {own nm : String} {cc : ByteArray} {nL : Nat} {ret : Option FieldType} {tb : List (Nat × Nat × Nat × Nat)} {X : ZX} {d : Nat} {Q : State → Prop} {σ σ' : ZT} {pc q : Nat} {lv : List (Nat × Value)} {st rest : List Value} {β : Type} {out : β}
theorem z_getIB {kf : Int32 → Option β} (C : ZC G own nm cc nL ret tb X d) {idx f a : Nat} (F : ZF 0 own idx 16 f ∧ ZF 0 own idx 17 f) (hd : decode cc pc = .ok (.getfield idx, 3)) (hf : (gIB f a σ).bind kf = some out) (hq : pc + 3 = q) (kk : ∀ v : Int32, kf v = some out → ZW l G nL X Q σ q lv (.int v :: st)) : ZW l G nL X Q σ pc lv (.ref a :: st) := by
  unfold gIB at hf
  by_cases h : zK σ a = 17
  · rw [if_pos h] at hf
    exact z_getI C F.1 hd hf hq kk
  · rw [if_neg h] at hf
    exact z_getI C F.2 hd hf hq kk
theorem z_getRB {kf : Nat → Option β} (C : ZC G own nm cc nL ret tb X d) {idx f a : Nat} (F : ZF 2 own idx 16 f ∧ ZF 2 own idx 17 f) (hd : decode cc pc = .ok (.getfield idx, 3)) (hf : (gRB f a σ).bind kf = some out) (hq : pc + 3 = q) (kk : ∀ v : Nat, kf v = some out → ZW l G nL X Q σ q lv (.ref v :: st)) : ZW l G nL X Q σ pc lv (.ref a :: st) := by
  unfold gRB at hf
  by_cases h : zK σ a = 17
  · rw [if_pos h] at hf
    exact z_getR C F.1 hd hf hq kk
  · rw [if_neg h] at hf
    exact z_getR C F.2 hd hf hq kk
theorem z_putIB {kf : ZT → Option β} (C : ZC G own nm cc nL ret tb X d) {idx f a : Nat} {v : Int32} (F : ZPu own nm idx 16 f .int ∧ ZPu own nm idx 17 f .int) (hd : decode cc pc = .ok (.putfield idx, 3)) (hf : (pIB f a v σ).bind kf = some out) (hq : pc + 3 = q) (kk : ∀ σ' : ZT, kf σ' = some out → ZW l G nL X Q σ' q lv st) : ZW l G nL X Q σ pc lv (.int v :: .ref a :: st) := by
  unfold pIB at hf
  by_cases h : zK σ a = 17
  · rw [if_pos h] at hf
    exact z_putI C F.1 hd hf hq kk
  · rw [if_neg h] at hf
    exact z_putI C F.2 hd hf hq kk
theorem z_putRB {kf : ZT → Option β} (C : ZC G own nm cc nL ret tb X d) {idx f a v : Nat} {ty : FieldType} (F : ZPu own nm idx 16 f ty ∧ ZPu own nm idx 17 f ty) (hty : ztc ty = 2) (hd : decode cc pc = .ok (.putfield idx, 3)) (hf : (pRB f a (some v) σ).bind kf = some out) (hq : pc + 3 = q) (kk : ∀ σ' : ZT, kf σ' = some out → ZW l G nL X Q σ' q lv st) : ZW l G nL X Q σ pc lv (.ref v :: .ref a :: st) := by
  unfold pRB at hf
  by_cases h : zK σ a = 17
  · rw [if_pos h] at hf
    exact z_putR C F.1 hty hd hf hq kk
  · rw [if_neg h] at hf
    exact z_putR C F.2 hty hd hf hq kk
/-- a call of an inherited or overridden method: the receiver's class Cn selects y -/
def ZU (own : String) (idx : Nat) (Cn owner : String) (x y : MethodName) (n : Nat) : Prop := Cond.methodLink own idx x ∈ lw_all ∧ Cond.sameMethod x.cls owner x.name x.desc ∈ lw_all ∧ Cond.declares ⟨owner, x.name, x.desc⟩ ∈ zNw ∧ Cond.selects Cn x y ∈ lw_all ∧ Cond.instanceMethod y ∈ lw_all ∧ (owner ≠ "java/lang/invoke/MethodHandle" ∧ owner ≠ "java/lang/invoke/VarHandle") ∧ (parseMethodDescriptor x.desc).map (fun d => d.parameters.length) = some n
theorem zinv_U (C : ZC G own nm cc nL ret tb X d) {idx ci N b : Nat} {Cn owner : String} {x y : MethodName} {Tf : u_T} {As : List Value} (hk : ZKl ci Cn Tf N) (V : ZU own idx Cn owner x y As.length) (hK : zK σ b = ci + 1) (hd : decode cc pc = .ok (.invokevirtual idx, 3)) (hs : st = As.reverse ++ .ref b :: rest) : ∀ (H : Heap) (ls : Array Slot), HP G σ H → ZInv l X y (.ref b :: As) pc st rest H ls := by
  intro H ls hP T locs cells slots hT X0
  obtain ⟨hl, hsame, hdec, hse, hin, hy, hpar⟩ := V
  obtain ⟨cell, f1, f2, f3, -⟩ := hP.recv C.K hk hK
  obtain ⟨r0, r, hn, hrm, hstR, hsigR⟩ := va_Decl.abs (C.nw hdec)
  obtain ⟨cn, ck, r1, hcn, hck, hni, hff, hn1⟩ := Cond.sameMethod_found (C.w hsame)
  cases hn.symm.trans hn1
  obtain ⟨mk, methM, hnamed, hmethM, -, habM⟩ := Cond.instanceMethod_spec (C.w hin)
  obtain ⟨c2, r2, m2, q1, q2, q3, q4, kP, hkP, hkPi⟩ := Cond.selects_spec (C.w hse)
  cases f3.symm.trans q1
  cases hff.symm.trans q2
  cases hnamed.symm.trans q3
  have hselP : selectMethod (xe X).platform (xs X).vm cell.cls r0 = .method mk := by rw [Launch.admits_selectMethod X0.admits]; exact q4
  obtain ⟨vm₁, X₁, hstep₁⟩ := X0.invokevirtualUp C.x C.ow (C.w hl) (C.w hsame) hy hn hrm hstR (a := b) (cell := cell) (by rw [hT]; exact f1)
    (fun z h => by rw [h] at f2; cases f2) hselP hmethM habM hkP hkPi (g := F0 (xm X) pc ls st) rfl (argsL := As) (rest := rest) (zpar hpar hsigR) hs (by rw [C.b]; exact hd)
  exact ⟨mk, vm₁, hnamed, X₁, hstep₁⟩
theorem z_callUv (C : ZC G own nm cc nL ret tb X d) {kf : ZT → Option β} {x y : MethodName} {cc' : ByteArray} {nL' d' idx : Nat} {ret' : Option FieldType} {tb' : List (Nat × Nat × Nat × Nat)} {As : List Value} {ci N b : Nat} {Cn owner : String} {Tf : u_T} {gx : Option ZT} (hM : ∀ o, gx = some o → ZM l G y cc' nL' ret' tb' d' (.ref b :: As) σ (.returned none) o) (hk : ZKl ci Cn Tf N) (V : ZU own idx Cn owner x y As.length) (hcode : ZCode y cc' nL' ret' tb') (hy : plainName y.cls = true) (hd : decode cc pc = .ok (.invokevirtual idx, 3)) (hs : st = As.reverse ++ .ref b :: rest) (hd' : d' < d) (hw : (rest.map fun v => v.category).sum + (nL' + 11) ≤ 60) (hf : (vc ci b σ gx).bind kf = some out) (hq : pc + 3 = q) (kk : ∀ σ' : ZT, kf σ' = some out → ZW l G nL X Q σ' q lv rest) : ZW l G nL X Q σ pc lv st := by
  obtain ⟨σ1, hg, hf⟩ := Option.bind_eq_some_iff.mp hf
  obtain ⟨hK, hg⟩ := vc_some hg
  exact zcall_go C (hM _ hg) hd' hy hcode hd hw (zinv_U C hk V hK hd hs) hq (kk σ1 hf)
theorem z_call2v (C : ZC G own nm cc nL ret tb X d) {kf : ZT → Option β} {y : MethodName} {cc' : ByteArray} {nL' d' idx : Nat} {ret' : Option FieldType} {tb' : List (Nat × Nat × Nat × Nat)} {As : List Value} {b : Nat} {gx : Option ZT} (hM : ∀ o, gx = some o → ZM l G y cc' nL' ret' tb' d' (.ref b :: As) σ (.returned none) o) (V : ZV own idx RX16 y As.length ∧ ZV own idx RX17 y As.length) (hcode : ZCode y cc' nL' ret' tb') (hy : plainName y.cls = true) (hd : decode cc pc = .ok (.invokevirtual idx, 3)) (hs : st = As.reverse ++ .ref b :: rest) (hd' : d' < d) (hw : (rest.map fun v => v.category).sum + (nL' + 11) ≤ 60) (hf : (vc2 b σ gx).bind kf = some out) (hq : pc + 3 = q) (kk : ∀ σ' : ZT, kf σ' = some out → ZW l G nL X Q σ' q lv rest) : ZW l G nL X Q σ pc lv st := by
  obtain ⟨σ1, hg, hf⟩ := Option.bind_eq_some_iff.mp hf
  unfold vc2 at hg
  by_cases h : zK σ b = 17 ∨ zK σ b = 18
  · rw [if_pos h] at hg
    rcases h with h | h
    · exact zcall_go C (hM _ hg) hd' hy hcode hd hw (zinv_V C zk16 V.1 hcode h hd hs) hq (kk σ1 hf)
    · exact zcall_go C (hM _ hg) hd' hy hcode hd hw (zinv_V C zk17 V.2 hcode h hd hs) hq (kk σ1 hf)
  · rw [if_neg h] at hg; cases hg
theorem z_call4v (C : ZC G own nm cc nL ret tb X d) {kf : ZT → Option β} {y : MethodName} {cc' : ByteArray} {nL' d' idx : Nat} {ret' : Option FieldType} {tb' : List (Nat × Nat × Nat × Nat)} {As : List Value} {b : Nat} {gx : Option ZT} (hM : ∀ o, gx = some o → ZM l G y cc' nL' ret' tb' d' (.ref b :: As) σ (.returned none) o) (V : ZV own idx RX16 y As.length ∧ ZV own idx RX17 y As.length ∧ ZV own idx RX18 y As.length ∧ ZV own idx RX19 y As.length) (hcode : ZCode y cc' nL' ret' tb') (hy : plainName y.cls = true) (hd : decode cc pc = .ok (.invokevirtual idx, 3)) (hs : st = As.reverse ++ .ref b :: rest) (hd' : d' < d) (hw : (rest.map fun v => v.category).sum + (nL' + 11) ≤ 60) (hf : (vc4 b σ gx).bind kf = some out) (hq : pc + 3 = q) (kk : ∀ σ' : ZT, kf σ' = some out → ZW l G nL X Q σ' q lv rest) : ZW l G nL X Q σ pc lv st := by
  obtain ⟨σ1, hg, hf⟩ := Option.bind_eq_some_iff.mp hf
  unfold vc4 at hg
  by_cases h : zK σ b = 17 ∨ zK σ b = 18 ∨ zK σ b = 19 ∨ zK σ b = 20
  · rw [if_pos h] at hg
    rcases h with h | h | h | h
    · exact zcall_go C (hM _ hg) hd' hy hcode hd hw (zinv_V C zk16 V.1 hcode h hd hs) hq (kk σ1 hf)
    · exact zcall_go C (hM _ hg) hd' hy hcode hd hw (zinv_V C zk17 V.2.1 hcode h hd hs) hq (kk σ1 hf)
    · exact zcall_go C (hM _ hg) hd' hy hcode hd hw (zinv_V C zk18 V.2.2.1 hcode h hd hs) hq (kk σ1 hf)
    · exact zcall_go C (hM _ hg) hd' hy hcode hd hw (zinv_V C zk19 V.2.2.2 hcode h hd hs) hq (kk σ1 hf)
  · rw [if_neg h] at hg; cases hg
/-- the call's pc lies under no clause: what the callee throws goes on -/
theorem zthrown_out (C : ZC G own nm cc nL ret tb X d) {x : Nat} (hc : (tableOf tb).all (fun y => !covers y pc) = true) {T : State} {locs : List Loc} {ls : Array Slot} (hP : HP G σ' T.heap) (hL : ∀ q ∈ locs, gb G ≤ q.base) (h1 : zbc σ' ≤ xbc X) (h2 : zbs σ' ≤ xbs X) (X0 : Stand (xp X) l (xe X) (xR X) (xs X) (xm X) (xa X) (xb X) (xmt X) (xc X) T locs (xbc X - zbc σ') (xbs X - zbs σ')) :
    ∃ t, Steps (xp X).tables (xe X) (xb X) ((T.setTop (F0 (xm X) pc ls rest)).pushFrame (.throwing x)) t ∧ ZQ G X (.threw x) σ' t := by
  obtain ⟨a1, a2, a3, a4, a5⟩ := X0.leaveThrown x (g := F0 (xm X) pc ls rest) rfl rfl rfl (outside_of_table C.tbl hc) C.lk
  exact ⟨_, a1, a2, a3, a4, hP, h1, h2, locs, a5, hL⟩
theorem z_callXVi (C : ZC G own nm cc nL ret tb X d) {kt : Nat → ZT → Option β} {kf : Int32 → ZT → Option β} {y : MethodName} {cc' : ByteArray} {nL' d' idx : Nat} {ret' : Option FieldType} {tb' : List (Nat × Nat × Nat × Nat)} {As : List Value} {ci N b : Nat} {Cn : String} {Tf : u_T} {gx : Option ((Nat × ZT) ⊕ (Int32 × ZT))} (hM : ∀ o, gx = some o → ZM l G y cc' nL' ret' tb' d' (.ref b :: As) σ (zoi o) (zsi o)) (hk : ZKl ci Cn Tf N) (V : ZV own idx Cn y As.length) (hcode : ZCode y cc' nL' ret' tb') (hy : plainName y.cls = true) (hd : decode cc pc = .ok (.invokevirtual idx, 3)) (hs : st = As.reverse ++ .ref b :: rest) (hd' : d' < d) (hw : (rest.map fun v => v.category).sum + (nL' + 11) ≤ 60) (hf : bndX (vc ci b σ gx) kt kf = some out) (hq : pc + 3 = q) (kT : ∀ (x : Nat) (σ' : ZT), kt x σ' = some out → ∀ (T : State) (locs : List Loc) (ls : Array Slot), HP G σ' T.heap → (∀ q ∈ locs, gb G ≤ q.base) → zbc σ' ≤ xbc X → zbs σ' ≤ xbs X → lv_has ls nL lv → Stand (xp X) l (xe X) (xR X) (xs X) (xm X) (xa X) (xb X) (xmt X) (xc X) T locs (xbc X - zbc σ') (xbs X - zbs σ') → ∃ t, Steps (xp X).tables (xe X) (xb X) ((T.setTop (F0 (xm X) pc ls rest)).pushFrame (.throwing x)) t ∧ Q t) (kk : ∀ (v : Int32) (σ' : ZT), kf v σ' = some out → ZW l G nL X Q σ' q lv (.int v :: rest)) : ZW l G nL X Q σ pc lv st := by
  unfold bndX at hf
  split at hf
  · cases hf
  · rename_i p hg
    obtain ⟨hK, hg⟩ := vc_some hg
    exact zcall_goT C (hM _ hg) hd' hy hcode hd hw (zinv_V C hk V hcode hK hd hs) (kT _ _ hf)
  · rename_i r hg
    obtain ⟨hK, hg⟩ := vc_some hg
    exact zcall_go C (hM _ hg) hd' hy hcode hd hw (zinv_V C hk V hcode hK hd hs) hq (kk _ _ hf)
theorem z_callXVl (C : ZC G own nm cc nL ret tb X d) {kt : Nat → ZT → Option β} {kf : Int64 → ZT → Option β} {y : MethodName} {cc' : ByteArray} {nL' d' idx : Nat} {ret' : Option FieldType} {tb' : List (Nat × Nat × Nat × Nat)} {As : List Value} {ci N b : Nat} {Cn : String} {Tf : u_T} {gx : Option ((Nat × ZT) ⊕ (Int64 × ZT))} (hM : ∀ o, gx = some o → ZM l G y cc' nL' ret' tb' d' (.ref b :: As) σ (zol o) (zsl o)) (hk : ZKl ci Cn Tf N) (V : ZV own idx Cn y As.length) (hcode : ZCode y cc' nL' ret' tb') (hy : plainName y.cls = true) (hd : decode cc pc = .ok (.invokevirtual idx, 3)) (hs : st = As.reverse ++ .ref b :: rest) (hd' : d' < d) (hw : (rest.map fun v => v.category).sum + (nL' + 11) ≤ 60) (hf : bndX (vc ci b σ gx) kt kf = some out) (hq : pc + 3 = q) (kT : ∀ (x : Nat) (σ' : ZT), kt x σ' = some out → ∀ (T : State) (locs : List Loc) (ls : Array Slot), HP G σ' T.heap → (∀ q ∈ locs, gb G ≤ q.base) → zbc σ' ≤ xbc X → zbs σ' ≤ xbs X → lv_has ls nL lv → Stand (xp X) l (xe X) (xR X) (xs X) (xm X) (xa X) (xb X) (xmt X) (xc X) T locs (xbc X - zbc σ') (xbs X - zbs σ') → ∃ t, Steps (xp X).tables (xe X) (xb X) ((T.setTop (F0 (xm X) pc ls rest)).pushFrame (.throwing x)) t ∧ Q t) (kk : ∀ (v : Int64) (σ' : ZT), kf v σ' = some out → ZW l G nL X Q σ' q lv (.long v :: rest)) : ZW l G nL X Q σ pc lv st := by
  unfold bndX at hf
  split at hf
  · cases hf
  · rename_i p hg
    obtain ⟨hK, hg⟩ := vc_some hg
    exact zcall_goT C (hM _ hg) hd' hy hcode hd hw (zinv_V C hk V hcode hK hd hs) (kT _ _ hf)
  · rename_i r hg
    obtain ⟨hK, hg⟩ := vc_some hg
    exact zcall_go C (hM _ hg) hd' hy hcode hd hw (zinv_V C hk V hcode hK hd hs) hq (kk _ _ hf)
theorem z_callXVr (C : ZC G own nm cc nL ret tb X d) {kt : Nat → ZT → Option β} {kf : Nat → ZT → Option β} {y : MethodName} {cc' : ByteArray} {nL' d' idx : Nat} {ret' : Option FieldType} {tb' : List (Nat × Nat × Nat × Nat)} {As : List Value} {ci N b : Nat} {Cn : String} {Tf : u_T} {gx : Option ((Nat × ZT) ⊕ (Nat × ZT))} (hM : ∀ o, gx = some o → ZM l G y cc' nL' ret' tb' d' (.ref b :: As) σ (zor o) (zsr o)) (hk : ZKl ci Cn Tf N) (V : ZV own idx Cn y As.length) (hcode : ZCode y cc' nL' ret' tb') (hy : plainName y.cls = true) (hd : decode cc pc = .ok (.invokevirtual idx, 3)) (hs : st = As.reverse ++ .ref b :: rest) (hd' : d' < d) (hw : (rest.map fun v => v.category).sum + (nL' + 11) ≤ 60) (hf : bndX (vc ci b σ gx) kt kf = some out) (hq : pc + 3 = q) (kT : ∀ (x : Nat) (σ' : ZT), kt x σ' = some out → ∀ (T : State) (locs : List Loc) (ls : Array Slot), HP G σ' T.heap → (∀ q ∈ locs, gb G ≤ q.base) → zbc σ' ≤ xbc X → zbs σ' ≤ xbs X → lv_has ls nL lv → Stand (xp X) l (xe X) (xR X) (xs X) (xm X) (xa X) (xb X) (xmt X) (xc X) T locs (xbc X - zbc σ') (xbs X - zbs σ') → ∃ t, Steps (xp X).tables (xe X) (xb X) ((T.setTop (F0 (xm X) pc ls rest)).pushFrame (.throwing x)) t ∧ Q t) (kk : ∀ (v : Nat) (σ' : ZT), kf v σ' = some out → ZW l G nL X Q σ' q lv (.ref v :: rest)) : ZW l G nL X Q σ pc lv st := by
  unfold bndX at hf
  split at hf
  · cases hf
  · rename_i p hg
    obtain ⟨hK, hg⟩ := vc_some hg
    exact zcall_goT C (hM _ hg) hd' hy hcode hd hw (zinv_V C hk V hcode hK hd hs) (kT _ _ hf)
  · rename_i r hg
    obtain ⟨hK, hg⟩ := vc_some hg
    exact zcall_go C (hM _ hg) hd' hy hcode hd hw (zinv_V C hk V hcode hK hd hs) hq (kk _ _ hf)
theorem z_callXVv (C : ZC G own nm cc nL ret tb X d) {kt : Nat → ZT → Option β} {kf : ZT → Option β} {y : MethodName} {cc' : ByteArray} {nL' d' idx : Nat} {ret' : Option FieldType} {tb' : List (Nat × Nat × Nat × Nat)} {As : List Value} {ci N b : Nat} {Cn : String} {Tf : u_T} {gx : Option ((Nat × ZT) ⊕ ZT)} (hM : ∀ o, gx = some o → ZM l G y cc' nL' ret' tb' d' (.ref b :: As) σ (zov o) (zsv o)) (hk : ZKl ci Cn Tf N) (V : ZV own idx Cn y As.length) (hcode : ZCode y cc' nL' ret' tb') (hy : plainName y.cls = true) (hd : decode cc pc = .ok (.invokevirtual idx, 3)) (hs : st = As.reverse ++ .ref b :: rest) (hd' : d' < d) (hw : (rest.map fun v => v.category).sum + (nL' + 11) ≤ 60) (hf : bndXv (vc ci b σ gx) kt kf = some out) (hq : pc + 3 = q) (kT : ∀ (x : Nat) (σ' : ZT), kt x σ' = some out → ∀ (T : State) (locs : List Loc) (ls : Array Slot), HP G σ' T.heap → (∀ q ∈ locs, gb G ≤ q.base) → zbc σ' ≤ xbc X → zbs σ' ≤ xbs X → lv_has ls nL lv → Stand (xp X) l (xe X) (xR X) (xs X) (xm X) (xa X) (xb X) (xmt X) (xc X) T locs (xbc X - zbc σ') (xbs X - zbs σ') → ∃ t, Steps (xp X).tables (xe X) (xb X) ((T.setTop (F0 (xm X) pc ls rest)).pushFrame (.throwing x)) t ∧ Q t) (kk : ∀ σ' : ZT, kf σ' = some out → ZW l G nL X Q σ' q lv rest) : ZW l G nL X Q σ pc lv st := by
  unfold bndXv at hf
  split at hf
  · cases hf
  · rename_i p hg
    obtain ⟨hK, hg⟩ := vc_some hg
    exact zcall_goT C (hM _ hg) hd' hy hcode hd hw (zinv_V C hk V hcode hK hd hs) (kT _ _ hf)
  · rename_i r hg
    obtain ⟨hK, hg⟩ := vc_some hg
    exact zcall_go C (hM _ hg) hd' hy hcode hd hw (zinv_V C hk V hcode hK hd hs) hq (kk _ hf)
end
