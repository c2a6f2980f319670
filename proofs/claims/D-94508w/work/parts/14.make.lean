set_option maxRecDepth 100000
section
variable {l : Launch} {G : ZG} {own nm : String} {cc : ByteArray} {nL : Nat} {ret : Option FieldType} {tb : List (Nat × Nat × Nat × Nat)} {X : ZX} {d : Nat} {Q : State → Prop} {σ : ZT} {pc q : Nat} {lv : List (Nat × Value)} {st : List Value} {β : Type} {out : β}
theorem z1_at {α : Type} {m : Nat → α} {a : Nat} {v : α} : z1 m a v a = v := if_pos rfl
theorem z1_ne {α : Type} {m : Nat → α} {a b : Nat} {v : α} (h : b ≠ a) : z1 m a v b = m b := if_neg h
theorem zrow_at {α : Type} {m : Nat → Nat → α} {a : Nat} {r : Nat → α} : zrow m a r a = r := if_pos rfl
theorem zrow_ne {α : Type} {m : Nat → Nat → α} {a b : Nat} {r : Nat → α} (h : b ≠ a) : zrow m a r b = m b := if_neg h
theorem zcol_at {α : Type} {m : Nat → Nat → α} {a g : Nat} {v : α} : zcol m a v g a = v := if_pos rfl
theorem zcol_ne {α : Type} {m : Nat → Nat → α} {a b g : Nat} {v : α} (h : b ≠ a) : zcol m a v g b = m g b := if_neg h
theorem znew_cell {dA : Nat → ClassId} {k n len b : Nat} (hb : b ≠ zsz σ) : zcell dA (znew σ k n len) b = zcell dA σ b :=
  zcell_ne (z1_ne hb) (fun _ => zcol_ne hb) (fun _ => zcol_ne hb) (fun _ => zcol_ne hb) (zrow_ne hb) (zrow_ne hb) (zrow_ne hb) (z1_ne hb)
theorem zdef_fv {ty : FieldType} {f : Nat} {k n len : Nat} (h : ty = .int ∨ ty = .boolean ∨ ztc ty = 1 ∨ ztc ty = 2) : defaultValue ty = zfv (ztc ty) (znew σ k n len) f (zsz σ) := by
  have e1 : zI (znew σ k n len) f (zsz σ) = 0 := zcol_at
  have e2 : zL (znew σ k n len) f (zsz σ) = 0 := zcol_at
  have e3 : zR (znew σ k n len) f (zsz σ) = none := zcol_at
  unfold zfv
  rw [e1, e2, e3]
  cases ty <;> first | rfl | (simp [ztc] at h)
theorem z_new {kf : Nat → ZT → Option β} (C : ZC G own nm cc nL ret tb X d) {idx ci N : Nat} {Cn : String} {T : u_T} (K : ZKl ci Cn T N) (hty : ∀ k, k < N → zTy ci k = .int ∨ zTy ci k = .boolean ∨ ztc (zTy ci k) = 1 ∨ ztc (zTy ci k) = 2) (w1 : Cond.classLink own idx Cn ∈ lw_all) (w2 : Cond.instantiable Cn N ∈ lw_all) (w3 : Cond.initialized Cn ∈ lw_all) (hd : decode cc pc = .ok (.new idx, 3)) (hf : bnd2 (nwO ci N σ) kf = some out) (hq : pc + 3 = q) (kk : ∀ (a : Nat) (σ' : ZT), kf a σ' = some out → ZW l G nL X Q σ' q lv (.ref a :: st)) : ZW l G nL X Q σ pc lv st := by
  subst hq
  obtain ⟨hc20, hcl, hN, hin, hty0, hnm⟩ := K
  unfold nwO at hf
  by_cases hb : 1 ≤ zbc σ ∧ N ≤ zbs σ
  · rw [if_pos hb] at hf
    intro H locs ls hP hL h1 h2 hl
    have hce := C.ce
    have hsl := C.sl
    have hKn := C.K.2.1.1 ci _ hcl
    refine W.newcK C.x C.b C.ow (C.w w1) (C.w w2) (C.w w3) rfl hd (by omega) (by omega) hKn.2.1 hP.1 fun H1 kC hkC e1 z1 o1 => ?_
    have hP1 : HP G (znew σ (ci + 1) N 0) H1 := by
      refine hP.push rfl (fun b hb => z1_ne hb) (fun b hb => znew_cell hb) ?_ (by rw [z1, hP.1]) (fun q hq => o1 q (by rw [← hP.1]; exact hq))
      unfold zcell
      rw [show zK (znew σ (ci + 1) N 0) (zsz σ) = ci + 1 from z1_at, if_pos (by omega)]
      refine ⟨_, hcl, (u_born (zTy ci) C.ts hin hKn hkC e1 hty0).to (fun k hk => ?_)⟩
      have e := zfs_at (σ := znew σ (ci + 1) N 0) (a := zsz σ) hcl hk
      show _ = (zfs (znew σ (ci + 1) N 0) ci (zsz σ)).getD k .null
      rw [List.getD_eq_getElem?_getD, e]
      exact zdef_fv (hty k hk)
    have k1 := kk _ _ hf H1 locs ls hP1 hL (by show zbc σ - 1 ≤ _; omega) (by show zbs σ - N ≤ _; omega) hl
    rw [show xbc X - zbc (znew σ (ci + 1) N 0) = xbc X - zbc σ + 1 by show xbc X - (zbc σ - 1) = _; omega, show xbs X - zbs (znew σ (ci + 1) N 0) = xbs X - zbs σ + N by show xbs X - (zbs σ - N) = _; omega] at k1
    exact k1
  · rw [if_neg hb] at hf; cases hf
theorem znew_arr {H H1 : Heap} (hP : HP G σ H) {j n : Nat} {ty : FieldType} (e1 : H1[zsz σ]? = some (arrV (gA G j) n (fun _ => defaultValue ty))) (hdef : (j = 1 → ty = .long) ∧ (j ≠ 1 → j < 5 → defaultValue ty = .int 0) ∧ (5 ≤ j → defaultValue ty = .null)) (z : H1.size = H.size + 1) (oq : ∀ q : Nat, q < H.size → H1[q]? = H[q]?) : HP G (znew σ (21 + j) n n) H1 := by
  refine hP.push rfl (fun b hb => z1_ne hb) (fun b hb => znew_cell hb) ?_ z oq
  unfold zcell
  rw [show zK (znew σ (21 + j) n n) (zsz σ) = 21 + j from z1_at, if_neg (by omega), Nat.add_sub_cancel_left]
  show H1[zsz σ]? = some (vp_cell (gA G j) (zN (znew σ (21 + j) n n) (zsz σ), zarr (znew σ (21 + j) n n) j (zsz σ)))
  rw [show zN (znew σ (21 + j) n n) (zsz σ) = n from z1_at, e1]
  have a1 : zAI (znew σ (21 + j) n n) (zsz σ) = fun _ => 0 := zrow_at
  have a2 : zAL (znew σ (21 + j) n n) (zsz σ) = fun _ => 0 := zrow_at
  have a3 : zAR (znew σ (21 + j) n n) (zsz σ) = fun _ => none := zrow_at
  unfold zarr
  by_cases h1 : j = 1
  · rw [if_pos h1, a2, vp_cell_l, hdef.1 h1]
    rfl
  · rw [if_neg h1]
    by_cases h5 : j < 5
    · rw [if_pos h5, a1, vp_cell_i, hdef.2.1 h1 h5]
    · rw [if_neg h5, a3, vp_cell_q, hdef.2.2 (by omega)]
      rfl
theorem z_newarr {kf : Nat → ZT → Option β} (C : ZC G own nm cc nL ret tb X d) (j : Nat) (hj : j < 5) {at0 : ArrayType} {n : Int32} (hty : newarray.typeOf at0 = zAty j) (w1 : Cond.arrayClass (zAty j) ∈ lw_all) (hd : decode cc pc = .ok (.newarray at0, 2)) (hf : bnd2 (nwA j n σ) kf = some out) (hq : pc + 2 = q) (kk : ∀ (a : Nat) (σ' : ZT), kf a σ' = some out → ZW l G nL X Q σ' q lv (.ref a :: st)) : ZW l G nL X Q σ pc lv (.int n :: st) := by
  subst hq
  unfold nwA at hf
  by_cases hb : ¬ n < 0 ∧ n.toNatClampNeg ≤ 1000000 ∧ 1 ≤ zbc σ ∧ n.toNatClampNeg ≤ zbs σ
  · rw [if_pos hb] at hf
    intro H locs ls hP hL h1 h2 hl
    have hce := C.ce
    have hsl := C.sl
    have hcb : componentBytes (newarray.typeOf at0) ≤ 8 := by cases at0 <;> decide
    have hmul : n.toNatClampNeg * componentBytes (newarray.typeOf at0) ≤ 1000000 * 8 := Nat.mul_le_mul hb.2.1 hcb
    refine va_newaK C.x C.b (by rw [hty]; exact C.w w1) rfl hd rfl hb.1 rfl (by omega) (by omega) (by omega) hP.1 fun H1 cA e1 z1 o1 hAr hNm => ?_
    have hcA : cA = gA G j := by
      have h3 := (C.ar (j := j) (by omega)).2
      rw [hty] at hNm
      match j, hj with
      | 0, _ => exact Option.some.inj (hNm.symm.trans h3)
      | 1, _ => exact Option.some.inj (hNm.symm.trans h3)
      | 2, _ => exact Option.some.inj (hNm.symm.trans h3)
      | 3, _ => exact Option.some.inj (hNm.symm.trans h3)
      | 4, _ => exact Option.some.inj (hNm.symm.trans h3)
    subst hcA
    rw [hty] at e1
    have hP1 : HP G (znew σ (21 + j) n.toNatClampNeg n.toNatClampNeg) H1 := by
      refine znew_arr hP e1 ?_ (by rw [z1, hP.1]) (fun q hq => o1 q (by rw [← hP.1]; exact hq))
      match j, hj with
      | 0, _ => exact ⟨fun h => absurd h (by decide), fun _ _ => rfl, fun h => absurd h (by decide)⟩
      | 1, _ => exact ⟨fun _ => rfl, fun h => absurd rfl h, fun h => absurd h (by decide)⟩
      | 2, _ => exact ⟨fun h => absurd h (by decide), fun _ _ => rfl, fun h => absurd h (by decide)⟩
      | 3, _ => exact ⟨fun h => absurd h (by decide), fun _ _ => rfl, fun h => absurd h (by decide)⟩
      | 4, _ => exact ⟨fun h => absurd h (by decide), fun _ _ => rfl, fun h => absurd h (by decide)⟩
    have k1 := kk _ _ hf H1 locs ls hP1 hL (by show zbc σ - 1 ≤ _; omega) (by show zbs σ - n.toNatClampNeg ≤ _; omega) hl
    rw [show xbc X - zbc (znew σ (21 + j) n.toNatClampNeg n.toNatClampNeg) = xbc X - zbc σ + 1 by show xbc X - (zbc σ - 1) = _; omega, show xbs X - zbs (znew σ (21 + j) n.toNatClampNeg n.toNatClampNeg) = xbs X - zbs σ + n.toNatClampNeg by show xbs X - (zbs σ - n.toNatClampNeg) = _; omega] at k1
    exact k1
  · rw [if_neg hb] at hf; cases hf
theorem z_anewarr {kf : Nat → ZT → Option β} (C : ZC G own nm cc nL ret tb X d) (j : Nat) (hj : 5 ≤ j) (hj2 : j < 11) {E : String} {idx : Nat} {n : Int32} (hE : zAty j = .object E) (hAo : E ∈ zAo) (w1 : Cond.classLink own idx E ∈ lw_all) (hd : decode cc pc = .ok (.anewarray idx, 3)) (hf : bnd2 (nwA j n σ) kf = some out) (hq : pc + 3 = q) (kk : ∀ (a : Nat) (σ' : ZT), kf a σ' = some out → ZW l G nL X Q σ' q lv (.ref a :: st)) : ZW l G nL X Q σ pc lv (.int n :: st) := by
  subst hq
  unfold nwA at hf
  by_cases hb : ¬ n < 0 ∧ n.toNatClampNeg ≤ 1000000 ∧ 1 ≤ zbc σ ∧ n.toNatClampNeg ≤ zbs σ
  · rw [if_pos hb] at hf
    intro H locs ls hP hL h1 h2 hl
    have hce := C.ce
    have hsl := C.sl
    refine W.anew C.x C.b C.ow (C.w w1) (va_AO.use (C.K.2.2.2.1.1 E hAo)) rfl hd rfl hb.1 (by omega) (by omega) (by omega) fun cA kA comp f1 f2 f3 f4 => ?_
    have hcA : cA = gA G j := by
      have h3 := (C.ar hj2).2
      rw [hE] at h3
      obtain ⟨kA', comp', -, -, -, h4⟩ := h3
      exact Option.some.inj (f1.symm.trans h4)
    subst hcA
    generalize hH1 : H.push ({ cls := gA G j, slots := Array.replicate n.toNatClampNeg .null, vm := .none } : Cell) = H1
    have z1 : H1.size = H.size + 1 := by rw [← hH1, Array.size_push]
    have e1 : H1[zsz σ]? = some (arrV (gA G j) n.toNatClampNeg (fun _ => defaultValue (FieldType.object E))) := by
      rw [← hP.1, ← hH1, Array.getElem?_push_size, ← arrV_new]
      rfl
    have o1 : ∀ q : Nat, q < H.size → H1[q]? = H[q]? := fun q hq => by rw [← hH1, Array.getElem?_push, if_neg (Nat.ne_of_lt hq)]
    have hP1 : HP G (znew σ (21 + j) n.toNatClampNeg n.toNatClampNeg) H1 := znew_arr hP e1 ⟨fun h => absurd h (by omega), fun _ h => absurd h (by omega), fun _ => rfl⟩ z1 o1
    have k1 := kk _ _ hf H1 locs ls hP1 hL (by show zbc σ - 1 ≤ _; omega) (by show zbs σ - n.toNatClampNeg ≤ _; omega) hl
    rw [show xbc X - zbc (znew σ (21 + j) n.toNatClampNeg n.toNatClampNeg) = xbc X - zbc σ + 1 by show xbc X - (zbc σ - 1) = _; omega, show xbs X - zbs (znew σ (21 + j) n.toNatClampNeg n.toNatClampNeg) = xbs X - zbs σ + n.toNatClampNeg by show xbs X - (zbs σ - n.toNatClampNeg) = _; omega] at k1
    rw [hP.1]
    exact k1
  · rw [if_neg hb] at hf; cases hf
/-- an object of a kind that an array of references may hold -/
theorem zfit_asg (C : ZC G own nm cc nL ret tb X d) {H : Heap} (hP : HP G σ H) {j v : Nat} (hj2 : j < 11) (h : zfit j (zK σ v) = true) : ∃ (kA : Class) (comp : ClassId) (E : String) (cv : Cell) (kv kc : Class), zAty j = .object E ∧ (xs X).vm.classes[gA G j]? = some kA ∧ kA.kind = .array comp (.object E) ∧ (xs X).vm.classes[comp]? = some kc ∧ H[v]? = some cv ∧ cv.vm = .none ∧ (xs X).vm.classes[cv.cls]? = some kv ∧ (xs X).vm.assignable cv.cls comp = true := by
  have key : ∀ (ci : Nat) (Cn : String) (T : u_T) (N : Nat), ZKl ci Cn T N → zK σ v = ci + 1 → ∀ E : String, zAty j = .object E → (Cn = E ∨ Cond.castable Cn E ∈ zNw) → ∃ (kA : Class) (comp : ClassId) (E : String) (cv : Cell) (kv kc : Class), zAty j = .object E ∧ (xs X).vm.classes[gA G j]? = some kA ∧ kA.kind = .array comp (.object E) ∧ (xs X).vm.classes[comp]? = some kc ∧ H[v]? = some cv ∧ cv.vm = .none ∧ (xs X).vm.classes[cv.cls]? = some kv ∧ (xs X).vm.assignable cv.cls comp = true := by
    intro ci Cn T N K hK E hE hcast
    obtain ⟨hc20, hcl, -⟩ := K
    obtain ⟨r, hr1, cell, q1, q2, q3, -⟩ := hP.obj hc20 hK
    have hr : r = (Cn, T, N) := Option.some.inj (hr1.symm.trans hcl)
    subst hr
    have hat := (C.K.2.1.1 ci _ hcl).2
    obtain ⟨hfc, kC, hkC, hkind⟩ := hat
    have h3 := (C.ar hj2).2
    rw [hE] at h3
    obtain ⟨kA, comp, k1, k2, k3, -⟩ := h3
    obtain ⟨kc, hkc, -⟩ := Vm.findClass_spec k3
    refine ⟨kA, comp, E, cell, kC, kc, hE, k1, k2, hkc, q1, q3, by rw [q2]; exact hkC, ?_⟩
    rcases hcast with rfl | hcast
    · have e : comp = (gD G).1 ci := Option.some.inj (k3.symm.trans hfc)
      rw [q2, e]
      exact va_assign ⟨hfc, kC, hkC, hkind⟩
    · obtain ⟨c0, t0, f1, f2, f3⟩ := Cond.castable_spec (va_Nw.use (A := #[]) rfl (C.nw hcast))
      have e1 : c0 = (gD G).1 ci := Option.some.inj (f1.symm.trans hfc)
      have e2 : comp = t0 := Option.some.inj (k3.symm.trans f2)
      rw [q2, ← e1, e2]
      exact f3
  unfold zfit at h
  simp only [Bool.or_eq_true, Bool.and_eq_true, beq_iff_eq] at h
  rcases h with ((((⟨h1, h2⟩ | ⟨h1, h2⟩) | ⟨h1, h2⟩) | ⟨h1, h2⟩) | ⟨h1, h2⟩) | ⟨h1, h2⟩ <;> subst h1
  · exact key 1 _ _ _ zk1 h2 _ rfl (Or.inl rfl)
  · exact key 11 _ _ _ zk11 h2 _ rfl (Or.inl rfl)
  · exact key 12 _ _ _ zk12 h2 _ rfl (Or.inl rfl)
  · exact key 13 _ _ _ zk13 h2 _ rfl (Or.inl rfl)
  · exact key 4 _ _ _ zk4 h2 _ rfl (Or.inl rfl)
  · rcases h2 with ((h2 | h2) | h2) | h2
    · exact key 16 _ _ _ zk16 h2 _ rfl (Or.inr (zNw_in q2290 rfl))
    · exact key 17 _ _ _ zk17 h2 _ rfl (Or.inr (zNw_in q2291 rfl))
    · exact key 18 _ _ _ zk18 h2 _ rfl (Or.inr (zNw_in q2292 rfl))
    · exact key 19 _ _ _ zk19 h2 _ rfl (Or.inr (zNw_in q2293 rfl))
theorem z_aast {kf : ZT → Option β} (C : ZC G own nm cc nL ret tb X d) (j : Nat) (hj : 5 ≤ j) (hj2 : j < 11) {a v : Nat} {i : Int32} (hd : decode cc pc = .ok (.aastore, 1)) (hf : (stR j a i v σ).bind kf = some out) (hq : pc + 1 = q) (kk : ∀ σ' : ZT, kf σ' = some out → ZW l G nL X Q σ' q lv st) : ZW l G nL X Q σ pc lv (.ref v :: .int i :: .ref a :: st) := by
  subst hq
  unfold stR at hf
  by_cases hK : zK σ a = 21 + j ∧ (¬ i < 0 ∧ i.toNatClampNeg < zN σ a) ∧ zfit j (zK σ v) = true
  · rw [if_pos hK] at hf
    intro H locs ls hP hL h1 h2 hl
    have hge := hP.ge (a := a) (by omega)
    obtain ⟨kA, comp, E, cv, kv, kc, f1, f2, f3, f4, f5, f6, f7, f8⟩ := zfit_asg C hP hj2 hK.2.2
    exact W.aast C.x C.b (hP.arR hj hK.1) (fun q h => by cases h) (fun h => by cases h) f2 f3 rfl f4 ⟨hK.2.1.1, by show _ < (arrV _ _ _).slots.size; rw [arrV_size]; exact hK.2.1.2⟩ f5 (fun q h => by rw [f6] at h; cases h) f7 f8 rfl rfl hd fun H1 e z oq => kk _ hf H1 _ ls (hp_ar hP hj hK.1 (v := some v) e z oq) (t_lc hL hge) h1 h2 hl
  · rw [if_neg hK] at hf; cases hf
end
