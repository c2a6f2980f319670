set_option maxRecDepth 100000
/-! ===== System.arraycopy ===== -/
theorem znfw : nativeFrameWords "java/lang/System" "arraycopy" 5 ≤ 1000 := by decide
theorem znn {z : Int32} (hz : ¬ z < 0) : z.toInt = (z.toNatClampNeg : Int) := by
  have hz0 : (0 : Int) ≤ z.toInt := by
    have := Int32.not_lt.mp hz
    simpa using Int32.le_iff_toInt_le.mp this
  show z.toInt = ((z.toInt.toNat : Nat) : Int)
  omega
def zcpB (n0 n1 : Nat) (i k n : Int32) : Prop := ¬ i < 0 ∧ ¬ k < 0 ∧ ¬ n < 0 ∧ i.toNatClampNeg + n.toNatClampNeg ≤ n0 ∧ k.toNatClampNeg + n.toNatClampNeg ≤ n1
section
variable {l : Launch} {G : ZG} {own nm : String} {cc : ByteArray} {nL : Nat} {ret : Option FieldType} {tb : List (Nat × Nat × Nat × Nat)} {X : ZX} {d : Nat} {Q : State → Prop} {σ σ' : ZT} {pc q : Nat} {lv : List (Nat × Value)} {st rest : List Value} {β : Type} {out : β}
theorem zcpy_core (C : ZC G own nm cc nL ret tb X d) {α : Type} (mk : α → Value) {f g : Nat → α} {a b idx j0 j1 n0 n1 : Nat} {i k n : Int32} (hj0 : j0 < 11) (hj1 : j1 < 11) (hty : ((refKind (zAty j0) != refKind (zAty j1)) || (!refKind (zAty j0) && zAty j0 != zAty j1)) = false)
    (w : Cond.methodLink own idx arraycopyName ∈ lw_all) (hd : decode cc pc = .ok (.invokestatic idx, 3)) (hd0 : 0 < d) (hw : (rest.map fun v => v.category).sum ≤ 40)
    (hc0 : ∀ H : Heap, HP G σ H → H[a]? = some (arrV (gA G j0) n0 (fun j => mk (f j)))) (hc1 : ∀ H : Heap, HP G σ H → H[b]? = some (arrV (gA G j1) n1 (fun j => mk (g j)))) (hb : zcpB n0 n1 i k n) (hge : gb G ≤ b)
    (hvals : ∀ H : Heap, HP G σ H → ∀ (T : State) (vm' : Vm), T.heap = H → (xs X).vm.Alike vm' → ∀ comp : ClassId, (∀ E, zAty j1 = .object E → (xs X).vm.findClass E = some comp) → ∀ x : Nat, x < n.toNatClampNeg → fits (zAty j1) (mk (f (i.toNatClampNeg + x))) = true ∧ (T.setVm vm').takes comp (mk (f (i.toNatClampNeg + x))))
    (hz : zbc σ' = zbc σ ∧ zbs σ' = zbs σ) (hP' : ∀ H H1 : Heap, HP G σ H → H1[b]? = some (arrV (gA G j1) n1 (fun j => mk (va_cpy f g i.toNatClampNeg k.toNatClampNeg n.toNatClampNeg j))) → H1.size = H.size → (∀ q : Nat, q ≠ b → H1[q]? = H[q]?) → HP G σ' H1)
    (hq : pc + 3 = q) (kk : ZW l G nL X Q σ' q lv rest) : ZW l G nL X Q σ pc lv (.int n :: .int k :: .ref b :: .int i :: .ref a :: rest) := by
  subst hq
  obtain ⟨h1, h2, h3, h4, h5⟩ := hb
  intro H locs ls hP hL g1 g2 hl
  intro T hT X0
  have hfr := C.fr
  have hlo := C.lo
  have hnf := znfw
  have c0 := hc0 H hP
  have c1 := hc1 H hP
  obtain ⟨-, k0, hk0, cm0, hkk0⟩ := (C.ar hj0).1 n0 (fun j => mk (f j))
  obtain ⟨-, k1, hk1, cm1, hkk1⟩ := (C.ar hj1).1 n1 (fun j => mk (g j))
  have hcomp : ∀ E, zAty j1 = .object E → (xs X).vm.findClass E = some cm1 := by
    intro E hE
    have h := (C.ar hj1).2
    rw [hE] at h
    obtain ⟨kA, comp, r1, r2, r3, -⟩ := h
    cases hk1.symm.trans r1
    have e := hkk1.symm.trans r2
    have e1 : cm1 = comp := by injection e
    rw [e1]
    exact r3
  obtain ⟨vm', X', step⟩ := X0.arraycopy C.x C.ow (C.w w) (C.w q691) (C.w q690) (C.w q161) (src := a) (dst := b) (cs := arrV (gA G j0) n0 (fun j => mk (f j))) (cd := arrV (gA G j1) n1 (fun j => mk (g j))) (srcPos := i) (destPos := k) (n := n) (by rw [hT]; exact c0) (by rw [hT]; exact c1)
    (fun _ h => by cases h) (fun _ h => by cases h) (fun h => by cases h) (fun h => by cases h) hk0 hk1 hkk0 hkk1 hty h1 h2 h3
    (by rw [znn h1, znn h3, arrV_size]; omega) (by rw [znn h2, znn h3, arrV_size]; omega)
    (fun vm₁ hal x hx => by
      have e : (arrV (gA G j0) n0 (fun j => mk (f j))).slots.getD (i.toNatClampNeg + x) .null = mk (f (i.toNatClampNeg + x)) := by
        rw [Array.getD_eq_getD_getElem?, arrV_read _ _ (by omega)]
        rfl
      rw [e]
      exact hvals H hP T vm₁ hT hal cm1 hcomp x hx)
    (g := F0 (xm X) pc ls (.int n :: .int k :: .ref b :: .int i :: .ref a :: rest)) rfl (by rw [C.ml]; exact hl.1) (rest := rest) rfl (by rw [C.b]; exact hd) (by omega) (by show 2 * 0 + (rest.map fun v => v.category).sum + _ ≤ _; omega)
  have e1 : copied (arrV (gA G j0) n0 (fun j => mk (f j))) (arrV (gA G j1) n1 (fun j => mk (g j))) i k n = arrV (gA G j1) n1 (fun j => mk (va_cpy f g i.toNatClampNeg k.toNatClampNeg n.toNatClampNeg j)) := va_copied mk (gA G j0) (gA G j1) f g h4
  rw [e1] at X' step
  have hlt : b < H.size := (Array.getElem?_eq_some_iff.mp c1).1
  have hheap : ((T.setVm vm').setCell b (arrV (gA G j1) n1 (fun j => mk (va_cpy f g i.toNatClampNeg k.toNatClampNeg n.toNatClampNeg j)))).heap = H.setIfInBounds b (arrV (gA G j1) n1 (fun j => mk (va_cpy f g i.toNatClampNeg k.toNatClampNeg n.toNatClampNeg j))) := by rw [← hT]; rfl
  have hP1 := hP' H (H.setIfInBounds b (arrV (gA G j1) n1 (fun j => mk (va_cpy f g i.toNatClampNeg k.toNatClampNeg n.toNatClampNeg j)))) hP (by simp [Array.getElem?_setIfInBounds, hlt]) (by simp) (fun q hq => by simp [Array.getElem?_setIfInBounds, Ne.symm hq])
  have hLL : ∀ q ∈ (locs ++ ((arrV (gA G j0) n0 (fun j => mk (f j))).stretch i.toNatClampNeg n.toNatClampNeg).zipIdx.map fun q => (⟨b, k.toNatClampNeg + q.2⟩ : Loc)), gb G ≤ q.base := t_lL hL (fun q hq => by
      obtain ⟨z, -, hz⟩ := List.mem_map.mp hq
      rw [← hz]
      exact hge)
  have k2 := kk _ _ ls hP1 hLL (by omega) (by omega) hl
  rw [hz.1, hz.2] at k2
  obtain ⟨t, a1, b1⟩ := k2 _ hheap X'
  exact ⟨t, step t a1, b1⟩
noncomputable def cpI (a : Nat) (i : Int32) (b : Nat) (k n : Int32) (σ : ZT) : Option ZT := @ite _ (zK σ a = 21 ∧ zK σ b = 21 ∧ zcpB (zN σ a) (zN σ b) i k n) (Classical.propDecidable _) (some (sAIr σ b (va_cpy (zAI σ a) (zAI σ b) i.toNatClampNeg k.toNatClampNeg n.toNatClampNeg))) none
noncomputable def cpR (a : Nat) (i : Int32) (b : Nat) (k n : Int32) (σ : ZT) : Option ZT := @ite _ (zK σ a = 31 ∧ zK σ b = 31 ∧ zcpB (zN σ a) (zN σ b) i k n ∧ ∀ x y : Nat, x < n.toNatClampNeg → zAR σ a (i.toNatClampNeg + x) = some y → zfit 10 (zK σ y) = true) (Classical.propDecidable _) (some (sARr σ b (va_cpy (zAR σ a) (zAR σ b) i.toNatClampNeg k.toNatClampNeg n.toNatClampNeg))) none
theorem hp_air {H H1 : Heap} (hP : HP G σ H) {a j : Nat} {r : Nat → Int32} (hj : j < 5) (hj1 : j ≠ 1) (hK : zK σ a = 21 + j) (e : H1[a]? = some (arrV (gA G j) (zN σ a) (fun x => .int (r x)))) (z : H1.size = H.size) (oq : ∀ q : Nat, q ≠ a → H1[q]? = H[q]?) : HP G (sAIr σ a r) H1 := by
  refine hP.set (by omega) rfl rfl (fun b hb => zcell_ne rfl (fun _ => rfl) (fun _ => rfl) (fun _ => rfl) (zrow_ne hb) rfl rfl rfl) ?_ z oq
  unfold zcell
  rw [show zK (sAIr σ a r) a = 21 + j from hK, if_neg (by omega), Nat.add_sub_cancel_left]
  show H1[a]? = some (vp_cell (gA G j) (zN σ a, zarr (sAIr σ a r) j a))
  have e2 : zarr (sAIr σ a r) j a = .inl r := by
    unfold zarr
    rw [if_neg hj1, if_pos hj]
    show Sum.inl (zrow (zAI σ) a r a) = _
    rw [zrow_at]
  rw [e2, vp_cell_i]
  exact e
theorem hp_arr {H H1 : Heap} (hP : HP G σ H) {a j : Nat} {r : Nat → Option Nat} (hj : 5 ≤ j) (hK : zK σ a = 21 + j) (e : H1[a]? = some (arrV (gA G j) (zN σ a) (fun x => va_rf (r x)))) (z : H1.size = H.size) (oq : ∀ q : Nat, q ≠ a → H1[q]? = H[q]?) : HP G (sARr σ a r) H1 := by
  refine hP.set (by omega) rfl rfl (fun b hb => zcell_ne rfl (fun _ => rfl) (fun _ => rfl) (fun _ => rfl) rfl rfl (zrow_ne hb) rfl) ?_ z oq
  unfold zcell
  rw [show zK (sARr σ a r) a = 21 + j from hK, if_neg (by omega), Nat.add_sub_cancel_left]
  show H1[a]? = some (vp_cell (gA G j) (zN σ a, zarr (sARr σ a r) j a))
  have e2 : zarr (sARr σ a r) j a = .inr (.inr (.inr (.inr r))) := by
    unfold zarr
    rw [if_neg (by omega), if_neg (by omega)]
    show Sum.inr (Sum.inr (Sum.inr (Sum.inr (zrow (zAR σ) a r a)))) = _
    rw [zrow_at]
  rw [e2, vp_cell_q]
  exact e
theorem z_cpyI {kf : ZT → Option β} (C : ZC G own nm cc nL ret tb X d) {a b idx : Nat} {i k n : Int32} (w : Cond.methodLink own idx arraycopyName ∈ lw_all) (hd : decode cc pc = .ok (.invokestatic idx, 3)) (hd0 : 0 < d) (hw : (rest.map fun v => v.category).sum ≤ 40) (hf : (cpI a i b k n σ).bind kf = some out) (hq : pc + 3 = q) (kk : ∀ σ' : ZT, kf σ' = some out → ZW l G nL X Q σ' q lv rest) : ZW l G nL X Q σ pc lv (.int n :: .int k :: .ref b :: .int i :: .ref a :: rest) := by
  unfold cpI at hf
  by_cases hc : zK σ a = 21 ∧ zK σ b = 21 ∧ zcpB (zN σ a) (zN σ b) i k n
  · rw [if_pos hc] at hf
    intro H locs ls hP
    exact zcpy_core (σ' := sAIr σ b (va_cpy (zAI σ a) (zAI σ b) i.toNatClampNeg k.toNatClampNeg n.toNatClampNeg)) C (fun z => .int z) (j0 := 0) (j1 := 0) (by decide) (by decide) (by decide) w hd hd0 hw (fun H hP => hP.arI (j := 0) (by decide) (by decide) hc.1) (fun H hP => hP.arI (j := 0) (by decide) (by decide) hc.2.1) hc.2.2 (hP.ge (a := b) (by omega))
      (fun H hP T vm' hT hal comp hcm x hx => ⟨rfl, trivial⟩) ⟨rfl, rfl⟩ (fun H H1 hP e z oq => hp_air hP (j := 0) (by decide) (by decide) hc.2.1 e z oq) hq (kk _ hf) H locs ls hP
  · rw [if_neg hc] at hf; cases hf
theorem z_cpyR {kf : ZT → Option β} (C : ZC G own nm cc nL ret tb X d) {a b idx : Nat} {i k n : Int32} (w : Cond.methodLink own idx arraycopyName ∈ lw_all) (hd : decode cc pc = .ok (.invokestatic idx, 3)) (hd0 : 0 < d) (hw : (rest.map fun v => v.category).sum ≤ 40) (hf : (cpR a i b k n σ).bind kf = some out) (hq : pc + 3 = q) (kk : ∀ σ' : ZT, kf σ' = some out → ZW l G nL X Q σ' q lv rest) : ZW l G nL X Q σ pc lv (.int n :: .int k :: .ref b :: .int i :: .ref a :: rest) := by
  unfold cpR at hf
  by_cases hc : zK σ a = 31 ∧ zK σ b = 31 ∧ zcpB (zN σ a) (zN σ b) i k n ∧ ∀ x y : Nat, x < n.toNatClampNeg → zAR σ a (i.toNatClampNeg + x) = some y → zfit 10 (zK σ y) = true
  · rw [if_pos hc] at hf
    intro H locs ls hP
    refine zcpy_core (σ' := sARr σ b (va_cpy (zAR σ a) (zAR σ b) i.toNatClampNeg k.toNatClampNeg n.toNatClampNeg)) C va_rf (j0 := 10) (j1 := 10) (by decide) (by decide) (by decide) w hd hd0 hw (fun H hP => hP.arR (j := 10) (by decide) hc.1) (fun H hP => hP.arR (j := 10) (by decide) hc.2.1) hc.2.2.1 (hP.ge (a := b) (by omega))
      (fun H hP T vm' hT hal comp hcm x hx => ?_) ⟨rfl, rfl⟩ (fun H H1 hP e z oq => hp_arr hP (j := 10) (by decide) hc.2.1 e z oq) hq (kk _ hf) H locs ls hP
    cases hy : zAR σ a (i.toNatClampNeg + x) with
    | none => exact ⟨rfl, trivial⟩
    | some y =>
      obtain ⟨kA, comp', E, cv, kv, kc, f1, f2, f3, f4, f5, f6, f7, f8⟩ := zfit_asg C hP (j := 10) (by decide) (hc.2.2.2 x y hx hy)
      have h3 := (C.ar (j := 10) (by decide)).2
      rw [f1] at h3
      obtain ⟨kA', comp2, r1, r2, r3, -⟩ := h3
      cases f2.symm.trans r1
      have e := f3.symm.trans r2
      cases e
      have ec : comp = comp' := Option.some.inj ((hcm E f1).symm.trans r3)
      subst ec
      obtain ⟨kv', hkv', -⟩ := hal.2.2 _ _ f7
      obtain ⟨kc', hkc', -⟩ := hal.2.2 _ _ f4
      refine ⟨rfl, cv, (show T.heap[y]? = some cv by rw [hT]; exact f5), (fun q h => by rw [f6] at h; cases h), ⟨kv', hkv'⟩, ⟨kc', hkc'⟩, ?_⟩
      show vm'.assignable _ _ = true
      rw [hal.assignable]
      exact f8
  · rw [if_neg hc] at hf; cases hf
end
