set_option maxRecDepth 100000
/-! ===== instanceof and checkcast of rows of numbers ===== -/
def zAn (j : Nat) : String := match j with
  | 0 => "[I"
  | 1 => "[J"
  | 2 => "[B"
  | _ => "[S"
def izA (j a : Nat) (σ : ZT) : Option Int32 := if zK σ a = 21 + j then some 1 else if 21 ≤ zK σ a ∧ zK σ a ≤ 24 then some 0 else none
def ckA (j a : Nat) (σ : ZT) : Option Unit := if zK σ a = 21 + j then some () else none
section
variable {l : Launch} {G : ZG} {own nm : String} {cc : ByteArray} {nL : Nat} {ret : Option FieldType} {tb : List (Nat × Nat × Nat × Nat)} {X : ZX} {d : Nat} {Q : State → Prop} {σ σ' : ZT} {pc q : Nat} {lv : List (Nat × Value)} {st rest : List Value} {β : Type} {out : β}
theorem zan_ok (C : ZC G own nm cc nL ret tb X d) {j : Nat} (hj : j < 4) : (xs X).vm.findClass (zAn j) = some (gA G j) := by
  match j, hj with
  | 0, _ => exact va_nm_int (C.ar (j := 0) (by decide)).2
  | 1, _ => exact va_nm_long (C.ar (j := 1) (by decide)).2
  | 2, _ => exact va_nm_byte (C.ar (j := 2) (by decide)).2
  | 3, _ => exact va_nm_short (C.ar (j := 3) (by decide)).2
theorem HP.recvA (C : ZC G own nm cc nL ret tb X d) {H : Heap} (hP : HP G σ H) {a j : Nat} (hj : j < 4) (hK : zK σ a = 21 + j) : ∃ cell : Cell, H[a]? = some cell ∧ cell.vm.isStatics = false ∧ (xs X).vm.findClass (zAn j) = some cell.cls := by
  refine ⟨_, hP.arr hK, ?_, ?_⟩
  · have h : (vp_cell (gA G j) (zN σ a, zarr σ j a)).vm = .none := by
      generalize zarr σ j a = x
      obtain f | f | f | f | f := x <;> rfl
    rw [h]; rfl
  · have h : (vp_cell (gA G j) (zN σ a, zarr σ j a)).cls = gA G j := by
      generalize zarr σ j a = x
      obtain f | f | f | f | f := x <;> rfl
    rw [h]; exact zan_ok C hj
theorem znc_at {j k : Nat} (hj : j = 0 ∨ j = 2 ∨ j = 3) (hk : k < 4) (h : k ≠ j) : (zAn k, zAn j) ∈ zNcs := by
  match k, hk with
  | 0, _ => rcases hj with rfl | rfl | rfl <;> first | exact absurd rfl h | decide
  | 1, _ => rcases hj with rfl | rfl | rfl <;> first | exact absurd rfl h | decide
  | 2, _ => rcases hj with rfl | rfl | rfl <;> first | exact absurd rfl h | decide
  | 3, _ => rcases hj with rfl | rfl | rfl <;> first | exact absurd rfl h | decide
theorem z_instA {kf : Int32 → Option β} (C : ZC G own nm cc nL ret tb X d) (j : Nat) {a idx : Nat} (hj : j = 0 ∨ j = 2 ∨ j = 3) (w : Cond.classLink own idx (zAn j) ∈ lw_all) (hd : decode cc pc = .ok (.instanceof idx, 3)) (hf : (izA j a σ).bind kf = some out) (hq : pc + 3 = q) (kk : ∀ v : Int32, kf v = some out → ZW l G nL X Q σ q lv (.int v :: st)) : ZW l G nL X Q σ pc lv (.ref a :: st) := by
  subst hq
  have hj4 : j < 4 := by omega
  unfold izA at hf
  intro H locs ls hP hL h1 h2 hl
  by_cases hK : zK σ a = 21 + j
  · rw [if_pos hK] at hf
    exact va_instE C.x C.b C.ow (C.w w) (hP.recvA C hj4 hK) hd (kk _ hf H locs ls hP hL h1 h2 hl)
  · rw [if_neg hK] at hf
    by_cases hK2 : 21 ≤ zK σ a ∧ zK σ a ≤ 24
    · rw [if_pos hK2] at hf
      have hk : zK σ a = 21 + (zK σ a - 21) := by omega
      exact va_instNo C.x C.b C.ow (C.w w) (C.nc (q := (zAn (zK σ a - 21), zAn j)) (znc_at hj (by omega) (by omega))) (hP.recvA C (j := zK σ a - 21) (by omega) hk) hd (kk _ hf H locs ls hP hL h1 h2 hl)
    · rw [if_neg hK2] at hf; cases hf
theorem z_castA {kf : Unit → Option β} (C : ZC G own nm cc nL ret tb X d) (j : Nat) {a idx : Nat} (hj : j < 4) (w : Cond.classLink own idx (zAn j) ∈ lw_all) (hd : decode cc pc = .ok (.checkcast idx, 3)) (hf : (ckA j a σ).bind kf = some out) (hq : pc + 3 = q) (kk : kf () = some out → ZW l G nL X Q σ q lv (.ref a :: st)) : ZW l G nL X Q σ pc lv (.ref a :: st) := by
  subst hq
  unfold ckA at hf
  intro H locs ls hP hL h1 h2 hl
  by_cases hK : zK σ a = 21 + j
  · rw [if_pos hK] at hf
    exact va_castE C.x C.b C.ow (C.w w) (hP.recvA C hj hK) hd (kk hf H locs ls hP hL h1 h2 hl)
  · rw [if_neg hK] at hf; cases hf
end
