set_option maxRecDepth 100000
/-- the receiver is of the class that the call names -/
def vc {α : Type} (ci b : Nat) (σ : ZT) (x : Option α) : Option α := if zK σ b = ci + 1 then x else none
theorem vc_some {α : Type} {ci b : Nat} {σ : ZT} {x : Option α} {o : α} (h : vc ci b σ x = some o) : zK σ b = ci + 1 ∧ x = some o := by
  unfold vc at h
  by_cases hK : zK σ b = ci + 1
  · rw [if_pos hK] at h; exact ⟨hK, h⟩
  · rw [if_neg hK] at h; cases h
def rz (v : Int32) : Option Int32 := if v = 0 ∨ v = 1 then some v else none
section
variable {l : Launch} {G : ZG} {own nm : String} {cc : ByteArray} {nL : Nat} {ret : Option FieldType} {tb : List (Nat × Nat × Nat × Nat)} {X : ZX} {d : Nat} {Q : State → Prop} {σ σ' : ZT} {pc q : Nat} {lv : List (Nat × Value)} {st rest : List Value} {β : Type} {out : β}
theorem z_ireturn (C : ZC G own nm cc nL ret tb X d) {v : Int32} {o : Int32 × ZT} (hr : ret = some .int) (hd : decode cc pc = .ok (.ireturn, 1)) (hf : (v, σ) = o) : ZW l G nL X (ZQ G X (.returned (some (.int o.1))) o.2) σ pc lv [.int v] := by
  subst hf
  intro H locs ls hP hL h1 h2 hl T hT X0
  obtain ⟨fs, hret, hrun, hended, hW, hframe⟩ := X0.leave (v := some (.int v)) (fun h => by rw [C.rt, hr] at h; cases h) C.lk
  have hmeth' : T.vm.method? (xm X) = some (xmt X) := X0.method'
  have hb := C.b
  have hx := C.x
  have hrt := C.rt
  have hP1 : HP G σ (T.setFrames fs).heap := by show HP G σ T.heap; rw [hT]; exact hP
  refine ⟨T.setFrames fs, ?_, hrun, hended, hW, hP1, h1, h2, locs, hframe, hL⟩
  rw [hr] at hrt
  jvm_step X0.here [X0.here.top, hx, hb, hd, hmeth', hrt, narrow]
  (try refine ⟨rfl, ?_⟩); (try refine ⟨rfl, ?_⟩)
  first | (intro acts; rw [hret _ acts rfl rfl rfl]) | rw [hret _ _ rfl rfl rfl]
  exact Steps.refl _
theorem z_zreturn (C : ZC G own nm cc nL ret tb X d) {v : Int32} {o : Int32 × ZT} (hr : ret = some .boolean) (hn : narrow .boolean (.int v) = .int v) (hd : decode cc pc = .ok (.ireturn, 1)) (hf : (v, σ) = o) : ZW l G nL X (ZQ G X (.returned (some (.int o.1))) o.2) σ pc lv [.int v] := by
  subst hf
  intro H locs ls hP hL h1 h2 hl T hT X0
  obtain ⟨fs, hret, hrun, hended, hW, hframe⟩ := X0.leave (v := some (.int v)) (fun h => by rw [C.rt, hr] at h; cases h) C.lk
  have hmeth' : T.vm.method? (xm X) = some (xmt X) := X0.method'
  have hb := C.b
  have hx := C.x
  have hrt := C.rt
  have hP1 : HP G σ (T.setFrames fs).heap := by show HP G σ T.heap; rw [hT]; exact hP
  refine ⟨T.setFrames fs, ?_, hrun, hended, hW, hP1, h1, h2, locs, hframe, hL⟩
  rw [hr] at hrt
  jvm_step X0.here [X0.here.top, hx, hb, hd, hmeth', hrt, hn]
  (try refine ⟨rfl, ?_⟩); (try refine ⟨rfl, ?_⟩)
  first | (intro acts; rw [hret _ acts rfl rfl rfl]) | rw [hret _ _ rfl rfl rfl]
  exact Steps.refl _
theorem z_creturn (C : ZC G own nm cc nL ret tb X d) {v : Int32} {o : Int32 × ZT} (hr : ret = some .char) (hn : narrow .char (.int v) = .int v) (hd : decode cc pc = .ok (.ireturn, 1)) (hf : (v, σ) = o) : ZW l G nL X (ZQ G X (.returned (some (.int o.1))) o.2) σ pc lv [.int v] := by
  subst hf
  intro H locs ls hP hL h1 h2 hl T hT X0
  obtain ⟨fs, hret, hrun, hended, hW, hframe⟩ := X0.leave (v := some (.int v)) (fun h => by rw [C.rt, hr] at h; cases h) C.lk
  have hmeth' : T.vm.method? (xm X) = some (xmt X) := X0.method'
  have hb := C.b
  have hx := C.x
  have hrt := C.rt
  have hP1 : HP G σ (T.setFrames fs).heap := by show HP G σ T.heap; rw [hT]; exact hP
  refine ⟨T.setFrames fs, ?_, hrun, hended, hW, hP1, h1, h2, locs, hframe, hL⟩
  rw [hr] at hrt
  jvm_step X0.here [X0.here.top, hx, hb, hd, hmeth', hrt, hn]
  (try refine ⟨rfl, ?_⟩); (try refine ⟨rfl, ?_⟩)
  first | (intro acts; rw [hret _ acts rfl rfl rfl]) | rw [hret _ _ rfl rfl rfl]
  exact Steps.refl _
theorem z_breturn (C : ZC G own nm cc nL ret tb X d) {v : Int32} {o : Int32 × ZT} (hr : ret = some .byte) (hn : narrow .byte (.int v) = .int v) (hd : decode cc pc = .ok (.ireturn, 1)) (hf : (v, σ) = o) : ZW l G nL X (ZQ G X (.returned (some (.int o.1))) o.2) σ pc lv [.int v] := by
  subst hf
  intro H locs ls hP hL h1 h2 hl T hT X0
  obtain ⟨fs, hret, hrun, hended, hW, hframe⟩ := X0.leave (v := some (.int v)) (fun h => by rw [C.rt, hr] at h; cases h) C.lk
  have hmeth' : T.vm.method? (xm X) = some (xmt X) := X0.method'
  have hb := C.b
  have hx := C.x
  have hrt := C.rt
  have hP1 : HP G σ (T.setFrames fs).heap := by show HP G σ T.heap; rw [hT]; exact hP
  refine ⟨T.setFrames fs, ?_, hrun, hended, hW, hP1, h1, h2, locs, hframe, hL⟩
  rw [hr] at hrt
  jvm_step X0.here [X0.here.top, hx, hb, hd, hmeth', hrt, hn]
  (try refine ⟨rfl, ?_⟩); (try refine ⟨rfl, ?_⟩)
  first | (intro acts; rw [hret _ acts rfl rfl rfl]) | rw [hret _ _ rfl rfl rfl]
  exact Steps.refl _
theorem z_lreturn (C : ZC G own nm cc nL ret tb X d) {v : Int64} {o : Int64 × ZT} (hr : ret = some .long) (hd : decode cc pc = .ok (.lreturn, 1)) (hf : (v, σ) = o) : ZW l G nL X (ZQ G X (.returned (some (.long o.1))) o.2) σ pc lv [.long v] := by
  subst hf
  intro H locs ls hP hL h1 h2 hl T hT X0
  obtain ⟨fs, hret, hrun, hended, hW, hframe⟩ := X0.leave (v := some (.long v)) (fun h => by rw [C.rt, hr] at h; cases h) C.lk
  have hmeth' : T.vm.method? (xm X) = some (xmt X) := X0.method'
  have hb := C.b
  have hx := C.x
  have hrt := C.rt
  have hP1 : HP G σ (T.setFrames fs).heap := by show HP G σ T.heap; rw [hT]; exact hP
  refine ⟨T.setFrames fs, ?_, hrun, hended, hW, hP1, h1, h2, locs, hframe, hL⟩
  rw [hr] at hrt
  jvm_step X0.here [X0.here.top, hx, hb, hd, hmeth', hrt, narrow]
  (try refine ⟨rfl, ?_⟩); (try refine ⟨rfl, ?_⟩)
  first | (intro acts; rw [hret _ acts rfl rfl rfl]) | rw [hret _ _ rfl rfl rfl]
  exact Steps.refl _
theorem z_areturn (C : ZC G own nm cc nL ret tb X d) {v : Nat} {o : Nat × ZT} {n : String} (hr : ret = some (.object n)) (hd : decode cc pc = .ok (.areturn, 1)) (hf : (v, σ) = o) : ZW l G nL X (ZQ G X (.returned (some (.ref o.1))) o.2) σ pc lv [.ref v] := by
  subst hf
  intro H locs ls hP hL h1 h2 hl T hT X0
  obtain ⟨fs, hret, hrun, hended, hW, hframe⟩ := X0.leave (v := some (.ref v)) (fun h => by rw [C.rt, hr] at h; cases h) C.lk
  have hmeth' : T.vm.method? (xm X) = some (xmt X) := X0.method'
  have hb := C.b
  have hx := C.x
  have hrt := C.rt
  have hP1 : HP G σ (T.setFrames fs).heap := by show HP G σ T.heap; rw [hT]; exact hP
  refine ⟨T.setFrames fs, ?_, hrun, hended, hW, hP1, h1, h2, locs, hframe, hL⟩
  rw [hr] at hrt
  jvm_step X0.here [X0.here.top, hx, hb, hd, hmeth', hrt]
  (try refine ⟨rfl, ?_⟩); (try refine ⟨rfl, ?_⟩)
  first | (intro acts; rw [hret _ acts rfl rfl rfl]) | rw [hret _ _ rfl rfl rfl]
  exact Steps.refl _
theorem z_return (C : ZC G own nm cc nL ret tb X d) {o : ZT} (hr : ret = none) (hd : decode cc pc = .ok (.return_, 1)) (hf : σ = o) : ZW l G nL X (ZQ G X (.returned none) o) σ pc lv st := by
  subst hf
  intro H locs ls hP hL h1 h2 hl T hT X0
  obtain ⟨fs, hret, hrun, hended, hW, hframe⟩ := X0.leave (v := none) (fun _ => rfl) C.lk
  have hmeth' : T.vm.method? (xm X) = some (xmt X) := X0.method'
  have hb := C.b
  have hx := C.x
  have hrt := C.rt
  have hP1 : HP G σ (T.setFrames fs).heap := by show HP G σ T.heap; rw [hT]; exact hP
  refine ⟨T.setFrames fs, ?_, hrun, hended, hW, hP1, h1, h2, locs, hframe, hL⟩
  rw [hr] at hrt
  jvm_step X0.here [X0.here.top, hx, hb, hd, hmeth', hrt]
  (try refine ⟨rfl, ?_⟩); (try refine ⟨rfl, ?_⟩)
  first | (intro acts; rw [hret _ acts rfl rfl rfl]) | rw [hret _ _ rfl rfl rfl]
  exact Steps.refl _
theorem z_rz (C : ZC G own nm cc nL ret tb X d) {kf : Int32 → Option β} {v : Int32} (hf : (rz v).bind kf = some out) (kk : narrow .boolean (.int v) = .int v → kf v = some out → ZW l G nL X Q σ pc lv (.int v :: st)) : ZW l G nL X Q σ pc lv (.int v :: st) := by
  unfold rz at hf
  by_cases h : v = 0 ∨ v = 1
  · rw [if_pos h] at hf
    exact kk (by rcases h with h | h <;> subst h <;> rfl) hf
  · rw [if_neg h] at hf; cases hf
theorem z_nb0 : narrow .boolean (.int 0) = .int 0 := rfl
theorem z_nb1 : narrow .boolean (.int 1) = .int 1 := rfl
theorem z_athrow (C : ZC G own nm cc nL ret tb X d) {x : Nat} (hd : decode cc pc = .ok (.athrow, 1)) (hc : (tableOf tb).all (fun y => !covers y pc) = true) (hf : σ = σ') : ZW l G nL X (ZQ G X (.threw x) σ') σ pc lv (.ref x :: st) := by
  subst hf
  intro H locs ls hP hL h1 h2 hl T hT X0
  obtain ⟨a1, a2, a3, a4, a5⟩ := X0.athrowLeaves C.x (g := F0 (xm X) pc ls (.ref x :: st)) rfl rfl rfl (outside_of_table C.tbl hc) rfl (by rw [C.b]; exact hd) C.lk
  have hP1 : HP G σ (T.setFrames (.throwing x :: xb X)).heap := by show HP G σ T.heap; rw [hT]; exact hP
  exact ⟨_, a1, a2, a3, a4, hP1, h1, h2, locs, a5, hL⟩
theorem z_callVi (C : ZC G own nm cc nL ret tb X d) {kf : Int32 → ZT → Option β} {y : MethodName} {cc' : ByteArray} {nL' d' idx : Nat} {ret' : Option FieldType} {tb' : List (Nat × Nat × Nat × Nat)} {As : List Value} {ci N b : Nat} {Cn : String} {Tf : u_T} {gx : Option (Int32 × ZT)} (hM : ∀ o, gx = some o → ZM l G y cc' nL' ret' tb' d' (.ref b :: As) σ (.returned (some (.int o.1))) o.2) (hk : ZKl ci Cn Tf N) (V : ZV own idx Cn y As.length) (hcode : ZCode y cc' nL' ret' tb') (hy : plainName y.cls = true) (hd : decode cc pc = .ok (.invokevirtual idx, 3)) (hs : st = As.reverse ++ .ref b :: rest) (hd' : d' < d) (hw : (rest.map fun v => v.category).sum + (nL' + 11) ≤ 60) (hf : bnd2 (vc ci b σ gx) kf = some out) (hq : pc + 3 = q) (kk : ∀ (v : Int32) (σ' : ZT), kf v σ' = some out → ZW l G nL X Q σ' q lv (.int v :: rest)) : ZW l G nL X Q σ pc lv st := by
  obtain ⟨v, σ1, hg, hf⟩ := bnd2_some hf
  obtain ⟨hK, hg⟩ := vc_some hg
  exact zcall_go C (hM _ hg) hd' hy hcode hd hw (zinv_V C hk V hcode hK hd hs) hq (kk v σ1 hf)
theorem z_callVl (C : ZC G own nm cc nL ret tb X d) {kf : Int64 → ZT → Option β} {y : MethodName} {cc' : ByteArray} {nL' d' idx : Nat} {ret' : Option FieldType} {tb' : List (Nat × Nat × Nat × Nat)} {As : List Value} {ci N b : Nat} {Cn : String} {Tf : u_T} {gx : Option (Int64 × ZT)} (hM : ∀ o, gx = some o → ZM l G y cc' nL' ret' tb' d' (.ref b :: As) σ (.returned (some (.long o.1))) o.2) (hk : ZKl ci Cn Tf N) (V : ZV own idx Cn y As.length) (hcode : ZCode y cc' nL' ret' tb') (hy : plainName y.cls = true) (hd : decode cc pc = .ok (.invokevirtual idx, 3)) (hs : st = As.reverse ++ .ref b :: rest) (hd' : d' < d) (hw : (rest.map fun v => v.category).sum + (nL' + 11) ≤ 60) (hf : bnd2 (vc ci b σ gx) kf = some out) (hq : pc + 3 = q) (kk : ∀ (v : Int64) (σ' : ZT), kf v σ' = some out → ZW l G nL X Q σ' q lv (.long v :: rest)) : ZW l G nL X Q σ pc lv st := by
  obtain ⟨v, σ1, hg, hf⟩ := bnd2_some hf
  obtain ⟨hK, hg⟩ := vc_some hg
  exact zcall_go C (hM _ hg) hd' hy hcode hd hw (zinv_V C hk V hcode hK hd hs) hq (kk v σ1 hf)
theorem z_callVr (C : ZC G own nm cc nL ret tb X d) {kf : Nat → ZT → Option β} {y : MethodName} {cc' : ByteArray} {nL' d' idx : Nat} {ret' : Option FieldType} {tb' : List (Nat × Nat × Nat × Nat)} {As : List Value} {ci N b : Nat} {Cn : String} {Tf : u_T} {gx : Option (Nat × ZT)} (hM : ∀ o, gx = some o → ZM l G y cc' nL' ret' tb' d' (.ref b :: As) σ (.returned (some (.ref o.1))) o.2) (hk : ZKl ci Cn Tf N) (V : ZV own idx Cn y As.length) (hcode : ZCode y cc' nL' ret' tb') (hy : plainName y.cls = true) (hd : decode cc pc = .ok (.invokevirtual idx, 3)) (hs : st = As.reverse ++ .ref b :: rest) (hd' : d' < d) (hw : (rest.map fun v => v.category).sum + (nL' + 11) ≤ 60) (hf : bnd2 (vc ci b σ gx) kf = some out) (hq : pc + 3 = q) (kk : ∀ (v : Nat) (σ' : ZT), kf v σ' = some out → ZW l G nL X Q σ' q lv (.ref v :: rest)) : ZW l G nL X Q σ pc lv st := by
  obtain ⟨v, σ1, hg, hf⟩ := bnd2_some hf
  obtain ⟨hK, hg⟩ := vc_some hg
  exact zcall_go C (hM _ hg) hd' hy hcode hd hw (zinv_V C hk V hcode hK hd hs) hq (kk v σ1 hf)
theorem z_callVv (C : ZC G own nm cc nL ret tb X d) {kf : ZT → Option β} {y : MethodName} {cc' : ByteArray} {nL' d' idx : Nat} {ret' : Option FieldType} {tb' : List (Nat × Nat × Nat × Nat)} {As : List Value} {ci N b : Nat} {Cn : String} {Tf : u_T} {gx : Option ZT} (hM : ∀ o, gx = some o → ZM l G y cc' nL' ret' tb' d' (.ref b :: As) σ (.returned none) o) (hk : ZKl ci Cn Tf N) (V : ZV own idx Cn y As.length) (hcode : ZCode y cc' nL' ret' tb') (hy : plainName y.cls = true) (hd : decode cc pc = .ok (.invokevirtual idx, 3)) (hs : st = As.reverse ++ .ref b :: rest) (hd' : d' < d) (hw : (rest.map fun v => v.category).sum + (nL' + 11) ≤ 60) (hf : ((vc ci b σ gx)).bind kf = some out) (hq : pc + 3 = q) (kk : ∀ σ' : ZT, kf σ' = some out → ZW l G nL X Q σ' q lv rest) : ZW l G nL X Q σ pc lv st := by
  obtain ⟨σ1, hg, hf⟩ := Option.bind_eq_some_iff.mp hf
  obtain ⟨hK, hg⟩ := vc_some hg
  exact zcall_go C (hM _ hg) hd' hy hcode hd hw (zinv_V C hk V hcode hK hd hs) hq (kk σ1 hf)
theorem z_callSi (C : ZC G own nm cc nL ret tb X d) {kf : Int32 → ZT → Option β} {y : MethodName} {cc' : ByteArray} {nL' d' idx : Nat} {ret' : Option FieldType} {tb' : List (Nat × Nat × Nat × Nat)} {As : List Value}  {gx : Option (Int32 × ZT)} (hM : ∀ o, gx = some o → ZM l G y cc' nL' ret' tb' d' As σ (.returned (some (.int o.1))) o.2) (V : ZS own idx y As.length) (hcode : ZCode y cc' nL' ret' tb') (hy : plainName y.cls = true) (hd : decode cc pc = .ok (.invokestatic idx, 3)) (hs : st = As.reverse ++ rest) (hd' : d' < d) (hw : (rest.map fun v => v.category).sum + (nL' + 11) ≤ 60) (hf : bnd2 gx kf = some out) (hq : pc + 3 = q) (kk : ∀ (v : Int32) (σ' : ZT), kf v σ' = some out → ZW l G nL X Q σ' q lv (.int v :: rest)) : ZW l G nL X Q σ pc lv st := by
  obtain ⟨v, σ1, hg, hf⟩ := bnd2_some hf
  exact zcall_go C (hM _ hg) hd' hy hcode hd hw (zinv_S C V hcode hd hs) hq (kk v σ1 hf)
theorem z_callSl (C : ZC G own nm cc nL ret tb X d) {kf : Int64 → ZT → Option β} {y : MethodName} {cc' : ByteArray} {nL' d' idx : Nat} {ret' : Option FieldType} {tb' : List (Nat × Nat × Nat × Nat)} {As : List Value}  {gx : Option (Int64 × ZT)} (hM : ∀ o, gx = some o → ZM l G y cc' nL' ret' tb' d' As σ (.returned (some (.long o.1))) o.2) (V : ZS own idx y As.length) (hcode : ZCode y cc' nL' ret' tb') (hy : plainName y.cls = true) (hd : decode cc pc = .ok (.invokestatic idx, 3)) (hs : st = As.reverse ++ rest) (hd' : d' < d) (hw : (rest.map fun v => v.category).sum + (nL' + 11) ≤ 60) (hf : bnd2 gx kf = some out) (hq : pc + 3 = q) (kk : ∀ (v : Int64) (σ' : ZT), kf v σ' = some out → ZW l G nL X Q σ' q lv (.long v :: rest)) : ZW l G nL X Q σ pc lv st := by
  obtain ⟨v, σ1, hg, hf⟩ := bnd2_some hf
  exact zcall_go C (hM _ hg) hd' hy hcode hd hw (zinv_S C V hcode hd hs) hq (kk v σ1 hf)
theorem z_callSr (C : ZC G own nm cc nL ret tb X d) {kf : Nat → ZT → Option β} {y : MethodName} {cc' : ByteArray} {nL' d' idx : Nat} {ret' : Option FieldType} {tb' : List (Nat × Nat × Nat × Nat)} {As : List Value}  {gx : Option (Nat × ZT)} (hM : ∀ o, gx = some o → ZM l G y cc' nL' ret' tb' d' As σ (.returned (some (.ref o.1))) o.2) (V : ZS own idx y As.length) (hcode : ZCode y cc' nL' ret' tb') (hy : plainName y.cls = true) (hd : decode cc pc = .ok (.invokestatic idx, 3)) (hs : st = As.reverse ++ rest) (hd' : d' < d) (hw : (rest.map fun v => v.category).sum + (nL' + 11) ≤ 60) (hf : bnd2 gx kf = some out) (hq : pc + 3 = q) (kk : ∀ (v : Nat) (σ' : ZT), kf v σ' = some out → ZW l G nL X Q σ' q lv (.ref v :: rest)) : ZW l G nL X Q σ pc lv st := by
  obtain ⟨v, σ1, hg, hf⟩ := bnd2_some hf
  exact zcall_go C (hM _ hg) hd' hy hcode hd hw (zinv_S C V hcode hd hs) hq (kk v σ1 hf)
theorem z_callSv (C : ZC G own nm cc nL ret tb X d) {kf : ZT → Option β} {y : MethodName} {cc' : ByteArray} {nL' d' idx : Nat} {ret' : Option FieldType} {tb' : List (Nat × Nat × Nat × Nat)} {As : List Value}  {gx : Option ZT} (hM : ∀ o, gx = some o → ZM l G y cc' nL' ret' tb' d' As σ (.returned none) o) (V : ZS own idx y As.length) (hcode : ZCode y cc' nL' ret' tb') (hy : plainName y.cls = true) (hd : decode cc pc = .ok (.invokestatic idx, 3)) (hs : st = As.reverse ++ rest) (hd' : d' < d) (hw : (rest.map fun v => v.category).sum + (nL' + 11) ≤ 60) (hf : (gx).bind kf = some out) (hq : pc + 3 = q) (kk : ∀ σ' : ZT, kf σ' = some out → ZW l G nL X Q σ' q lv rest) : ZW l G nL X Q σ pc lv st := by
  obtain ⟨σ1, hg, hf⟩ := Option.bind_eq_some_iff.mp hf
  exact zcall_go C (hM _ hg) hd' hy hcode hd hw (zinv_S C V hcode hd hs) hq (kk σ1 hf)
theorem z_callIv (C : ZC G own nm cc nL ret tb X d) {kf : ZT → Option β} {y : MethodName} {cc' : ByteArray} {nL' d' idx : Nat} {As : List Value} {b : Nat} {gx : Option ZT} (hM : ∀ o, gx = some o → ZM l G y cc' nL' none [] d' (.ref b :: As) σ (.returned none) o) (V : ZIn own idx y cc' nL' As.length) (hy : plainName y.cls = true) (hd : decode cc pc = .ok (.invokespecial idx, 3)) (hs : st = As.reverse ++ .ref b :: rest) (hd' : d' < d) (hw : (rest.map fun v => v.category).sum + (nL' + 11) ≤ 60) (hf : (gx).bind kf = some out) (hq : pc + 3 = q) (kk : ∀ σ' : ZT, kf σ' = some out → ZW l G nL X Q σ' q lv rest) : ZW l G nL X Q σ pc lv st := by
  obtain ⟨σ1, hg, hf⟩ := Option.bind_eq_some_iff.mp hf
  exact zcall_go C (hM _ hg) hd' hy (Or.inl ⟨rfl, V.2.2.1⟩) hd hw (zinv_I C V hd hs) hq (kk σ1 hf)
end
