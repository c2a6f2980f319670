set_option maxRecDepth 100000
section
variable {l : Launch} {G : ZG} {own nm : String} {cc : ByteArray} {nL : Nat} {ret : Option FieldType} {tb : List (Nat × Nat × Nat × Nat)} {X : ZX} {d : Nat} {Q : State → Prop} {σ : ZT} {pc q : Nat} {lv : List (Nat × Value)} {st : List Value} {β : Type} {out : β}
theorem z_in {i : Int32} {n : Nat} (h : ¬ i < 0 ∧ i.toNatClampNeg < n) : vp_in i n := fun z => z.elim h.1 (fun q => absurd h.2 (Nat.not_lt.mpr q))
theorem HP.arI {H : Heap} (h : HP G σ H) {a j : Nat} (hj : j < 5) (h1 : j ≠ 1) (ha : zK σ a = 21 + j) : H[a]? = some (vp_cell (gA G j) (zN σ a, .inl (zAI σ a))) := by
  have e := h.arr ha
  unfold zarr at e
  rw [if_neg h1, if_pos hj] at e
  exact e
theorem HP.arL {H : Heap} (h : HP G σ H) {a : Nat} (ha : zK σ a = 22) : H[a]? = some (vp_cell (gA G 1) (zN σ a, .inr (.inl (zAL σ a)))) := h.arr (j := 1) ha
theorem HP.arR {H : Heap} (h : HP G σ H) {a j : Nat} (hj : 5 ≤ j) (ha : zK σ a = 21 + j) : H[a]? = some (vp_cell (gA G j) (zN σ a, .inr (.inr (.inr (.inr (zAR σ a)))))) := by
  have e := h.arr ha
  unfold zarr at e
  rw [if_neg (by omega), if_neg (by omega)] at e
  exact e
theorem zTys_at {dA : Nat → ClassId} {j : Nat} (hj : j < 11) : (zTys dA)[j]? = some (dA j, zAty j) := by
  simp [zTys, hj]
theorem ZC.ar (C : ZC G own nm cc nL ret tb X d) {j : Nat} (hj : j < 11) : ArrOfT (xs X) (gA G j) (zAty j) ∧ va_RA (xs X) (gA G j) (zAty j) := C.K.2.1.2 j (gA G j, zAty j) (zTys_at hj)
theorem z_iald {kf : Int32 → Option β} (C : ZC G own nm cc nL ret tb X d) {a : Nat} {i : Int32} (hd : decode cc pc = .ok (.iaload, 1)) (hf : (ldI 0 a i σ).bind kf = some out) (hq : pc + 1 = q) (kk : ∀ v : Int32, kf v = some out → ZW l G nL X Q σ q lv (.int v :: st)) : ZW l G nL X Q σ pc lv (.int i :: .ref a :: st) := by
  subst hq
  unfold ldI at hf
  by_cases hK : zK σ a = 21 + 0 ∧ (¬ i < 0 ∧ i.toNatClampNeg < zN σ a)
  · rw [if_pos hK] at hf
    intro H locs ls hP hL h1 h2 hl
    exact va_iald C.x C.b C.K.2.1 (ws := [(a, .inl (gA G 0, zN σ a, .inl (zAI σ a)))]) (va_P.one (hP.arI (by decide) (by decide) hK.1)) 0 0 rfl (zTys_at (by decide)) (z_in hK.2) hd (kk _ hf H locs ls hP hL h1 h2 hl)
  · rw [if_neg hK] at hf; cases hf
theorem z_bald {kf : Int32 → Option β} (C : ZC G own nm cc nL ret tb X d) {a : Nat} {i : Int32} (hd : decode cc pc = .ok (.baload, 1)) (hf : (ldI 2 a i σ).bind kf = some out) (hq : pc + 1 = q) (kk : ∀ v : Int32, kf v = some out → ZW l G nL X Q σ q lv (.int v :: st)) : ZW l G nL X Q σ pc lv (.int i :: .ref a :: st) := by
  subst hq
  unfold ldI at hf
  by_cases hK : zK σ a = 21 + 2 ∧ (¬ i < 0 ∧ i.toNatClampNeg < zN σ a)
  · rw [if_pos hK] at hf
    intro H locs ls hP hL h1 h2 hl
    exact va_bald C.x C.b C.K.2.1 (ws := [(a, .inl (gA G 2, zN σ a, .inl (zAI σ a)))]) (va_P.one (hP.arI (by decide) (by decide) hK.1)) 0 2 rfl (zTys_at (by decide)) (z_in hK.2) hd (kk _ hf H locs ls hP hL h1 h2 hl)
  · rw [if_neg hK] at hf; cases hf
theorem z_sald {kf : Int32 → Option β} (C : ZC G own nm cc nL ret tb X d) {a : Nat} {i : Int32} (hd : decode cc pc = .ok (.saload, 1)) (hf : (ldI 3 a i σ).bind kf = some out) (hq : pc + 1 = q) (kk : ∀ v : Int32, kf v = some out → ZW l G nL X Q σ q lv (.int v :: st)) : ZW l G nL X Q σ pc lv (.int i :: .ref a :: st) := by
  subst hq
  unfold ldI at hf
  by_cases hK : zK σ a = 21 + 3 ∧ (¬ i < 0 ∧ i.toNatClampNeg < zN σ a)
  · rw [if_pos hK] at hf
    intro H locs ls hP hL h1 h2 hl
    exact va_sald C.x C.b C.K.2.1 (ws := [(a, .inl (gA G 3, zN σ a, .inl (zAI σ a)))]) (va_P.one (hP.arI (by decide) (by decide) hK.1)) 0 3 rfl (zTys_at (by decide)) (z_in hK.2) hd (kk _ hf H locs ls hP hL h1 h2 hl)
  · rw [if_neg hK] at hf; cases hf
theorem z_zald {kf : Int32 → Option β} (C : ZC G own nm cc nL ret tb X d) {a : Nat} {i : Int32} (hd : decode cc pc = .ok (.baload, 1)) (hf : (ldI 4 a i σ).bind kf = some out) (hq : pc + 1 = q) (kk : ∀ v : Int32, kf v = some out → ZW l G nL X Q σ q lv (.int v :: st)) : ZW l G nL X Q σ pc lv (.int i :: .ref a :: st) := by
  subst hq
  unfold ldI at hf
  by_cases hK : zK σ a = 21 + 4 ∧ (¬ i < 0 ∧ i.toNatClampNeg < zN σ a)
  · rw [if_pos hK] at hf
    intro H locs ls hP hL h1 h2 hl
    exact va_zald C.x C.b C.K.2.1 (ws := [(a, .inl (gA G 4, zN σ a, .inl (zAI σ a)))]) (va_P.one (hP.arI (by decide) (by decide) hK.1)) 0 4 rfl (zTys_at (by decide)) (z_in hK.2) hd (kk _ hf H locs ls hP hL h1 h2 hl)
  · rw [if_neg hK] at hf; cases hf
theorem z_lald {kf : Int64 → Option β} (C : ZC G own nm cc nL ret tb X d) {a : Nat} {i : Int32} (hd : decode cc pc = .ok (.laload, 1)) (hf : (ldL a i σ).bind kf = some out) (hq : pc + 1 = q) (kk : ∀ v : Int64, kf v = some out → ZW l G nL X Q σ q lv (.long v :: st)) : ZW l G nL X Q σ pc lv (.int i :: .ref a :: st) := by
  subst hq
  unfold ldL at hf
  by_cases hK : zK σ a = 22 ∧ (¬ i < 0 ∧ i.toNatClampNeg < zN σ a)
  · rw [if_pos hK] at hf
    intro H locs ls hP hL h1 h2 hl
    exact va_lald C.x C.b C.K.2.1 (ws := [(a, .inl (gA G 1, zN σ a, .inr (.inl (zAL σ a))))]) (va_P.one (hP.arL hK.1)) 0 1 rfl (zTys_at (by decide)) (z_in hK.2) hd (kk _ hf H locs ls hP hL h1 h2 hl)
  · rw [if_neg hK] at hf; cases hf
theorem zAty_obj {j : Nat} (hj : 5 ≤ j) : ∃ E : String, zAty j = .object E := by
  match j with
  | 5 => exact ⟨_, rfl⟩
  | 6 => exact ⟨_, rfl⟩
  | 7 => exact ⟨_, rfl⟩
  | 8 => exact ⟨_, rfl⟩
  | 9 => exact ⟨_, rfl⟩
  | k + 10 => exact ⟨_, rfl⟩
theorem z_aaldQ {kf : Option Nat → Option β} (C : ZC G own nm cc nL ret tb X d) (j : Nat) (hj : 5 ≤ j) (hj2 : j < 11) {a : Nat} {i : Int32} (hd : decode cc pc = .ok (.aaload, 1)) (hf : (ldQ j a i σ).bind kf = some out) (hq : pc + 1 = q) (kk : ∀ v : Option Nat, kf v = some out → ZW l G nL X Q σ q lv (va_rf v :: st)) : ZW l G nL X Q σ pc lv (.int i :: .ref a :: st) := by
  subst hq
  unfold ldQ at hf
  by_cases hK : zK σ a = 21 + j ∧ (¬ i < 0 ∧ i.toNatClampNeg < zN σ a)
  · rw [if_pos hK] at hf
    intro H locs ls hP hL h1 h2 hl
    obtain ⟨E, hE⟩ := zAty_obj hj
    exact va_aldq C.x C.b C.K.2.1 (ws := [(a, .inl (gA G j, zN σ a, .inr (.inr (.inr (.inr (zAR σ a))))))]) (C := E) (va_P.one (hP.arR hj hK.1)) 0 j rfl (by rw [← hE]; exact zTys_at hj2) (z_in hK.2) hd (kk _ hf H locs ls hP hL h1 h2 hl)
  · rw [if_neg hK] at hf; cases hf
theorem z_aaldR {kf : Nat → Option β} (C : ZC G own nm cc nL ret tb X d) (j : Nat) (hj : 5 ≤ j) (hj2 : j < 11) {a : Nat} {i : Int32} (hd : decode cc pc = .ok (.aaload, 1)) (hf : (ldR j a i σ).bind kf = some out) (hq : pc + 1 = q) (kk : ∀ v : Nat, kf v = some out → ZW l G nL X Q σ q lv (.ref v :: st)) : ZW l G nL X Q σ pc lv (.int i :: .ref a :: st) := by
  unfold ldR at hf
  by_cases hK : zK σ a = 21 + j ∧ (¬ i < 0 ∧ i.toNatClampNeg < zN σ a)
  · rw [if_pos hK] at hf
    cases hr : zAR σ a i.toNatClampNeg with
    | none => rw [hr] at hf; cases hf
    | some w =>
      rw [hr] at hf
      have hg : (ldQ j a i σ).bind (fun v => if v = some w then (some (some w) : Option (Option Nat)) else none) = some (some w) := by
        unfold ldQ
        rw [if_pos hK, hr]
        simp
      exact z_aaldQ (st := st) C j hj hj2 hd hg hq (fun v hv => by
        by_cases e : v = some w
        · subst e; exact kk w hf
        · rw [if_neg e] at hv; cases hv)
  · rw [if_neg hK] at hf; cases hf
theorem z_alen {kf : Int32 → Option β} (C : ZC G own nm cc nL ret tb X d) (j : Nat) (hj : j < 11) {a : Nat} (hd : decode cc pc = .ok (.arraylength, 1)) (hf : (zlen j a σ).bind kf = some out) (hq : pc + 1 = q) (kk : ∀ v : Int32, kf v = some out → ZW l G nL X Q σ q lv (.int v :: st)) : ZW l G nL X Q σ pc lv (.ref a :: st) := by
  subst hq
  unfold zlen at hf
  by_cases hK : zK σ a = 21 + j
  · rw [if_pos hK] at hf
    intro H locs ls hP hL h1 h2 hl
    exact va_alen C.x C.b C.K.2.1 (ws := [(a, .inl (gA G j, zN σ a, zarr σ j a))]) (va_P.one (hP.arr hK)) 0 j rfl (zTys_at hj) (v := nI (zN σ a)) rfl hd (kk _ hf H locs ls hP hL h1 h2 hl)
  · rw [if_neg hK] at hf; cases hf
/-! stores into arrays -/
theorem hp_ai {H H1 : Heap} (hP : HP G σ H) {a j k : Nat} {v : Int32} (hj : j < 5) (hj1 : j ≠ 1) (hK : zK σ a = 21 + j) (e : H1[a]? = some ((vp_cell (gA G j) (zN σ a, .inl (zAI σ a))).setSlot k (.int v))) (z : H1.size = H.size) (oq : ∀ q : Nat, q ≠ a → H1[q]? = H[q]?) : HP G (sAI σ a k v) H1 := by
  refine hP.set (by omega) rfl rfl (fun b hb => zcell_ne rfl (fun _ => rfl) (fun _ => rfl) (fun _ => rfl) (funext fun i => z2_nf hb) rfl rfl rfl) ?_ z oq
  unfold zcell
  rw [show zK (sAI σ a k v) a = 21 + j from hK, if_neg (by omega), Nat.add_sub_cancel_left]
  show H1[a]? = some (vp_cell (gA G j) (zN σ a, zarr (sAI σ a k v) j a))
  have e2 : zarr (sAI σ a k v) j a = .inl (zAI (sAI σ a k v) a) := by unfold zarr; rw [if_neg hj1, if_pos hj]
  rw [e2, e, vp_cell_i, vp_cell_i, arrV_store]
  congr 2
  funext i
  show updV (fun j => Value.int (zAI σ a j)) k (.int v) i = .int (z2 (zAI σ) a k v a i)
  unfold updV z2
  by_cases hi : i = k
  · subst hi; simp
  · simp [hi]
theorem hp_al {H H1 : Heap} (hP : HP G σ H) {a k : Nat} {v : Int64} (hK : zK σ a = 22) (e : H1[a]? = some ((vp_cell (gA G 1) (zN σ a, .inr (.inl (zAL σ a)))).setSlot k (.long v))) (z : H1.size = H.size) (oq : ∀ q : Nat, q ≠ a → H1[q]? = H[q]?) : HP G (sAL σ a k v) H1 := by
  refine hP.set (by omega) rfl rfl (fun b hb => zcell_ne rfl (fun _ => rfl) (fun _ => rfl) (fun _ => rfl) rfl (funext fun i => z2_nf hb) rfl rfl) ?_ z oq
  unfold zcell
  rw [show zK (sAL σ a k v) a = 22 from hK, if_neg (by omega)]
  show H1[a]? = some (vp_cell (gA G 1) (zN σ a, .inr (.inl (zAL (sAL σ a k v) a))))
  rw [e, vp_cell_l, vp_cell_l, arrV_store]
  congr 2
  funext i
  show updV (fun j => Value.long (zAL σ a j)) k (.long v) i = .long (z2 (zAL σ) a k v a i)
  unfold updV z2
  by_cases hi : i = k
  · subst hi; simp
  · simp [hi]
theorem hp_ar {H H1 : Heap} (hP : HP G σ H) {a j k : Nat} {v : Option Nat} (hj : 5 ≤ j) (hK : zK σ a = 21 + j) (e : H1[a]? = some ((vp_cell (gA G j) (zN σ a, .inr (.inr (.inr (.inr (zAR σ a)))))).setSlot k (va_rf v))) (z : H1.size = H.size) (oq : ∀ q : Nat, q ≠ a → H1[q]? = H[q]?) : HP G (sAR σ a k v) H1 := by
  refine hP.set (by omega) rfl rfl (fun b hb => zcell_ne rfl (fun _ => rfl) (fun _ => rfl) (fun _ => rfl) rfl rfl (funext fun i => z2_nf hb) rfl) ?_ z oq
  unfold zcell
  rw [show zK (sAR σ a k v) a = 21 + j from hK, if_neg (by omega), Nat.add_sub_cancel_left]
  show H1[a]? = some (vp_cell (gA G j) (zN σ a, zarr (sAR σ a k v) j a))
  have e2 : zarr (sAR σ a k v) j a = .inr (.inr (.inr (.inr (zAR (sAR σ a k v) a)))) := by unfold zarr; rw [if_neg (by omega), if_neg (by omega)]
  rw [e2, e, vp_cell_q, vp_cell_q, arrV_store]
  congr 2
  funext i
  show updV (fun j => va_rf (zAR σ a j)) k (va_rf v) i = va_rf (z2 (zAR σ) a k v a i)
  unfold updV z2
  by_cases hi : i = k
  · subst hi; simp
  · simp [hi]
theorem z_isz {n : Nat} {i : Int32} {cA : ClassId} {f : Nat → Value} (h : ¬ i < 0 ∧ i.toNatClampNeg < n) : ¬ (i < 0 ∨ (arrV cA n f).slots.size ≤ i.toNatClampNeg) := by
  rw [arrV_size]; exact z_in h
theorem z_iast {kf : ZT → Option β} (C : ZC G own nm cc nL ret tb X d) {a : Nat} {i v : Int32} (hd : decode cc pc = .ok (.iastore, 1)) (hf : (stI a i v σ).bind kf = some out) (hq : pc + 1 = q) (kk : ∀ σ' : ZT, kf σ' = some out → ZW l G nL X Q σ' q lv st) : ZW l G nL X Q σ pc lv (.int v :: .int i :: .ref a :: st) := by
  subst hq
  unfold stI at hf
  by_cases hK : zK σ a = 21 ∧ (¬ i < 0 ∧ i.toNatClampNeg < zN σ a)
  · rw [if_pos hK] at hf
    intro H locs ls hP hL h1 h2 hl
    have hge := hP.ge (a := a) (by omega)
    exact W.iast C.x C.b (hP.arI (j := 0) (by decide) (by decide) hK.1) ((C.ar (j := 0) (by decide)).1 _ _) (fun h => by cases h) (z_isz hK.2) rfl rfl hd fun H1 e z oq => kk _ hf H1 _ ls (hp_ai hP (j := 0) (by decide) (by decide) hK.1 e z oq) (t_lc hL hge) h1 h2 hl
  · rw [if_neg hK] at hf; cases hf
theorem z_bast {kf : ZT → Option β} (C : ZC G own nm cc nL ret tb X d) {a : Nat} {i v : Int32} (hd : decode cc pc = .ok (.bastore, 1)) (hf : (stB a i v σ).bind kf = some out) (hq : pc + 1 = q) (kk : ∀ σ' : ZT, kf σ' = some out → ZW l G nL X Q σ' q lv st) : ZW l G nL X Q σ pc lv (.int v :: .int i :: .ref a :: st) := by
  subst hq
  unfold stB at hf
  by_cases hK : zK σ a = 23 ∧ (¬ i < 0 ∧ i.toNatClampNeg < zN σ a)
  · rw [if_pos hK] at hf
    intro H locs ls hP hL h1 h2 hl
    have hge := hP.ge (a := a) (by omega)
    exact W.bast C.x C.b (hP.arI (j := 2) (by decide) (by decide) hK.1) ((C.ar (j := 2) (by decide)).1 _ _) (fun h => by cases h) (z_isz hK.2) rfl rfl hd fun H1 e z oq => kk _ hf H1 _ ls (hp_ai hP (j := 2) (by decide) (by decide) hK.1 e z oq) (t_lc hL hge) h1 h2 hl
  · rw [if_neg hK] at hf; cases hf
theorem z_sast {kf : ZT → Option β} (C : ZC G own nm cc nL ret tb X d) {a : Nat} {i v : Int32} (hd : decode cc pc = .ok (.sastore, 1)) (hf : (stS a i v σ).bind kf = some out) (hq : pc + 1 = q) (kk : ∀ σ' : ZT, kf σ' = some out → ZW l G nL X Q σ' q lv st) : ZW l G nL X Q σ pc lv (.int v :: .int i :: .ref a :: st) := by
  subst hq
  unfold stS at hf
  by_cases hK : zK σ a = 24 ∧ (¬ i < 0 ∧ i.toNatClampNeg < zN σ a)
  · rw [if_pos hK] at hf
    intro H locs ls hP hL h1 h2 hl
    have hge := hP.ge (a := a) (by omega)
    exact W.sast C.x C.b (hP.arI (j := 3) (by decide) (by decide) hK.1) ((C.ar (j := 3) (by decide)).1 _ _) (fun h => by cases h) (z_isz hK.2) rfl rfl hd fun H1 e z oq => kk _ hf H1 _ ls (hp_ai hP (j := 3) (by decide) (by decide) hK.1 e z oq) (t_lc hL hge) h1 h2 hl
  · rw [if_neg hK] at hf; cases hf
theorem z_zast {kf : ZT → Option β} (C : ZC G own nm cc nL ret tb X d) {a : Nat} {i v : Int32} (hd : decode cc pc = .ok (.bastore, 1)) (hf : (stZ a i v σ).bind kf = some out) (hq : pc + 1 = q) (kk : ∀ σ' : ZT, kf σ' = some out → ZW l G nL X Q σ' q lv st) : ZW l G nL X Q σ pc lv (.int v :: .int i :: .ref a :: st) := by
  subst hq
  unfold stZ at hf
  by_cases hK : zK σ a = 25 ∧ (¬ i < 0 ∧ i.toNatClampNeg < zN σ a) ∧ (v = 0 ∨ v = 1)
  · rw [if_pos hK] at hf
    intro H locs ls hP hL h1 h2 hl
    have hge := hP.ge (a := a) (by omega)
    have hn : narrow .boolean (.int v) = .int v := by rcases hK.2.2 with h | h <;> subst h <;> rfl
    exact W.zast C.x C.b (hP.arI (j := 4) (by decide) (by decide) hK.1) ((C.ar (j := 4) (by decide)).1 _ _) (fun h => by cases h) (z_isz hK.2.1) rfl rfl hd fun H1 e z oq => kk _ hf H1 _ ls (hp_ai hP (j := 4) (by decide) (by decide) hK.1 (by rw [← hn]; exact e) z oq) (t_lc hL hge) h1 h2 hl
  · rw [if_neg hK] at hf; cases hf
theorem z_last {kf : ZT → Option β} (C : ZC G own nm cc nL ret tb X d) {a : Nat} {i : Int32} {v : Int64} (hd : decode cc pc = .ok (.lastore, 1)) (hf : (stL a i v σ).bind kf = some out) (hq : pc + 1 = q) (kk : ∀ σ' : ZT, kf σ' = some out → ZW l G nL X Q σ' q lv st) : ZW l G nL X Q σ pc lv (.long v :: .int i :: .ref a :: st) := by
  subst hq
  unfold stL at hf
  by_cases hK : zK σ a = 22 ∧ (¬ i < 0 ∧ i.toNatClampNeg < zN σ a)
  · rw [if_pos hK] at hf
    intro H locs ls hP hL h1 h2 hl
    have hge := hP.ge (a := a) (by omega)
    exact W.last C.x C.b (hP.arL hK.1) ((C.ar (j := 1) (by decide)).1 _ _) (fun h => by cases h) (z_isz hK.2) rfl rfl hd fun H1 e z oq => kk _ hf H1 _ ls (hp_al hP hK.1 e z oq) (t_lc hL hge) h1 h2 hl
  · rw [if_neg hK] at hf; cases hf
end
