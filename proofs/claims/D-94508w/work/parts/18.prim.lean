set_option maxRecDepth 100000
/-! ===== String constants: length(), charAt(k) ===== -/
theorem zs_ok : ∀ i, i < 31 → (zSl.getD i 0 = (zSb.getD i []).length ∧ zSl.getD i 0 < 1000 ∧ ∀ b ∈ zSb.getD i [], ((b &&& 255).toUInt32 % 65536).toInt32 = b ∧ narrow .char (.int b) = .int b) := by decide +kernel
def zslen (i : Nat) : Option Int32 := if i < 31 then some (nI (zSl.getD i 0)) else none
def zschr (i : Nat) (k : Int32) : Option Int32 := if i < 31 ∧ ¬ k < 0 ∧ k < nI (zSl.getD i 0) then some ((zSb.getD i []).getD k.toNatClampNeg 0) else none
theorem getD_mem {l : List Int32} {k : Nat} (h : k < l.length) : l.getD k 0 ∈ l := by
  rw [List.getD_eq_getElem?_getD, List.getElem?_eq_getElem h]
  exact List.getElem_mem h
theorem HP.low {G : ZG} {σ : ZT} {H : Heap} (h : HP G σ H) : ∀ a : Nat, a < (gH G).size → ¬ gb G ≤ a → H[a]? = (gH G)[a]? := fun a _ h1 => h.2.2.1 a (Nat.lt_of_not_le h1)
section
variable {l : Launch} {G : ZG} {own nm : String} {cc : ByteArray} {nL : Nat} {ret : Option FieldType} {tb : List (Nat × Nat × Nat × Nat)} {X : ZX} {d : Nat} {Q : State → Prop} {σ σ' : ZT} {pc q : Nat} {lv : List (Nat × Value)} {st rest : List Value} {β : Type} {out : β}
theorem ZC.S (C : ZC G own nm cc nL ret tb X d) : zStr (gS G) (gV G) (fun q => gb G ≤ q) (gH G) (xs X) := C.K.2.2.2.2
theorem z_ldcS (C : ZC G own nm cc nL ret tb X d) (i : Nat) {idx : Nat} (hi : i < 31) (ho : zSo.getD i "" = own) (hx : zSi.getD i 0 = idx) (hd : decode cc pc = .ok (.ldc idx, 2)) (hq : pc + 2 = q) (kk : ZW l G nL X Q σ q lv (.ref (gS G i) :: st)) : ZW l G nL X Q σ pc lv st := by
  subst hq
  intro H locs ls hP hL h1 h2 hl
  have h := C.S.1 i hi
  rw [ho, hx] at h
  exact va_ldcS C.x C.b C.ow h hd (kk H locs ls hP hL h1 h2 hl)
theorem z_ldcw (C : ZC G own nm cc nL ret tb X d) {index : Nat} {v : Int32} (hw : Cond.constant own index v ∈ lw_all) (hd : decode cc pc = .ok (.ldc_w index, 3)) (hq : pc + 3 = q) (kk : ZW l G nL X Q σ q lv (.int v :: st)) : ZW l G nL X Q σ pc lv st := by
  subst hq
  intro H locs ls hP hL h1 h2 hl
  exact lv_ldcw C.x C.b C.ow (C.w hw) hd (kk H locs ls hP hL h1 h2 hl)
theorem z_gets (C : ZC G own nm cc nL ret tb X d) {Cn n ds : String} {v : Value} {idx : Nat} (hZ : va_Z Cn n ds v (fun q => gb G ≤ q) (xs X) (gH G)) (hw : Cond.fieldLink own idx Cn n ds ∈ lw_all) (hd : decode cc pc = .ok (.getstatic idx, 3)) (hq : pc + 3 = q) (kk : ZW l G nL X Q σ q lv (v :: st)) : ZW l G nL X Q σ pc lv st := by
  subst hq
  intro H locs ls hP hL h1 h2 hl
  obtain ⟨cf, kf, fi, f, a, cell, g1, g2, g3, g4, g5, g6, g7, g8⟩ := hZ.kept hP.low
  exact W.gets C.x C.b C.ow (C.w hw) g1 g2 g3 g4 g5 (fun e => by rw [e] at g6; cases g6) g7 rfl hd (kk H locs ls hP hL h1 h2 hl)
theorem z_getOF (C : ZC G own nm cc nL ret tb X d) {o n ds : String} {v : Value} {idx t : Nat} (hE : va_OF o n ds v t (fun q => gb G ≤ q) (xs X) (gH G)) (hw : Cond.fieldLink own idx o n ds ∈ lw_all) (hd : decode cc pc = .ok (.getfield idx, 3)) (hq : pc + 3 = q) (kk : ZW l G nL X Q σ q lv (v :: st)) : ZW l G nL X Q σ pc lv (.ref t :: st) := by
  subst hq
  intro H locs ls hP hL h1 h2 hl
  obtain ⟨cf, k, fi, f, cell, g1, g2, g3, g4, g5, g6⟩ := hE.kept hP.low
  exact W.getf C.x C.b C.ow (C.w hw) g1 g2 g3 g4 (v := v) g5 rfl rfl hd (kk H locs ls hP hL h1 h2 hl)
theorem z_tlen (C : ZC G own nm cc nL ret tb X d) {ty : FieldType} {t N : Nat} {f : Nat → Value} (hT : va_T ty t N f (fun q => gb G ≤ q) (xs X) (gH G)) (hd : decode cc pc = .ok (.arraylength, 1)) (hq : pc + 1 = q) (kk : ZW l G nL X Q σ q lv (.int (nI N) :: st)) : ZW l G nL X Q σ pc lv (.ref t :: st) := by
  subst hq
  intro H locs ls hP hL h1 h2 hl
  obtain ⟨cell, g1, g2, g3, g4, g5, g6, g7⟩ := hT.kept hP.low
  exact W.alen (n := Int32.ofNat N) C.x C.b g1 g2 g5 rfl rfl hd (kk H locs ls hP hL h1 h2 hl)
theorem z_tb (C : ZC G own nm cc nL ret tb X d) {t N : Nat} {f : Nat → Value} {i : Int32} {v : Value} (hT : va_T .byte t N f (fun q => gb G ≤ q) (xs X) (gH G)) (hin : ¬ i < 0 ∧ i.toNatClampNeg < N) (hv : f i.toNatClampNeg = v) (hd : decode cc pc = .ok (.baload, 1)) (hq : pc + 1 = q) (kk : ZW l G nL X Q σ q lv (v :: st)) : ZW l G nL X Q σ pc lv (.int i :: .ref t :: st) := by
  subst hq
  intro H locs ls hP hL h1 h2 hl
  obtain ⟨cell, g1, g2, g3, g4, g5, g6, g7⟩ := hT.kept hP.low
  have hin' : ¬ (i < 0 ∨ cell.slots.size ≤ i.toNatClampNeg) := by
    rintro (z | z)
    · exact hin.1 z
    · omega
  exact W.bald (v := v) C.x C.b g1 g2 g3 hin' (by rw [g6 _ hin.2, hv]) rfl rfl hd (kk H locs ls hP hL h1 h2 hl)
/-- a call through any cell of the class Cn -/
theorem zinv_VR (C : ZC G own nm cc nL ret tb X d) {y : MethodName} {cc' : ByteArray} {nL' : Nat} {ret' : Option FieldType} {tb' : List (Nat × Nat × Nat × Nat)} {idx b : Nat} {Cn : String} {As : List Value} (hr : ∀ H : Heap, HP G σ H → ∃ cell : Cell, H[b]? = some cell ∧ cell.vm.isStatics = false ∧ (xs X).vm.findClass Cn = some cell.cls) (V : ZV own idx Cn y As.length) (hcode : ZCode y cc' nL' ret' tb') (hd : decode cc pc = .ok (.invokevirtual idx, 3)) (hs : st = As.reverse ++ .ref b :: rest) : ∀ (H : Heap) (ls : Array Slot), HP G σ H → ZInv l X y (.ref b :: As) pc st rest H ls := by
  intro H ls hP T locs cells slots hT X0
  obtain ⟨hl, hin, hse, hy, hpar⟩ := V
  obtain ⟨cell, f1, f2, f3⟩ := hr H hP
  obtain ⟨mk, methM, hnamed, hmethM, hstM, habM⟩ := Cond.instanceMethod_spec (C.w hin)
  obtain ⟨methM', cM, hmethM', -, -, -, -, -, -, hsigM⟩ := hcode.spec C.K hnamed
  cases hmethM.symm.trans hmethM'
  obtain ⟨c2, r2, m2, q1, q2, q3, q4, kP, hkP, hkPi⟩ := Cond.selects_spec (C.w hse)
  cases f3.symm.trans q1
  cases (State.methodFound?_of_named hnamed hy).symm.trans q2
  cases hnamed.symm.trans q3
  have hselP : selectMethod (xe X).platform (xs X).vm cell.cls mk = .method mk := by rw [Launch.admits_selectMethod X0.admits]; exact q4
  have hlen := zpar hpar hsigM
  rcases hl with hl | ⟨host, hl⟩
  · obtain ⟨vm₁, X₁, hstep₁⟩ := X0.invokevirtual C.x C.ow (C.w hl) hnamed hmethM hstM hkP hkPi hy (a := b) (cell := cell) (by rw [hT]; exact f1)
      (fun z h => by rw [h] at f2; cases f2) hselP hmethM habM hkP hkPi (g := F0 (xm X) pc ls st) rfl (argsL := As) (rest := rest) hlen hs (by rw [C.b]; exact hd)
    exact ⟨mk, vm₁, hnamed, X₁, hstep₁⟩
  · obtain ⟨vm₁, X₁, hstep₁⟩ := X0.invokevirtualNest C.x C.ow (va_Nw.use rfl (C.nw hl)) hnamed hmethM hstM hkP hkPi hy (a := b) (cell := cell) (by rw [hT]; exact f1)
      (fun z h => by rw [h] at f2; cases f2) hselP hmethM habM hkP hkPi (g := F0 (xm X) pc ls st) rfl (argsL := As) (rest := rest) hlen hs (by rw [C.b]; exact hd)
    exact ⟨mk, vm₁, hnamed, X₁, hstep₁⟩
theorem zstr_recv (C : ZC G own nm cc nL ret tb X d) {i : Nat} (hi : i < 31) : ∀ H : Heap, HP G σ H → ∃ cell : Cell, H[gS G i]? = some cell ∧ cell.vm.isStatics = false ∧ (xs X).vm.findClass RJ4 = some cell.cls := by
  intro H hP
  obtain ⟨cell, h1, h2, h3, -⟩ := (C.S.2.1.1 i hi).1.kept hP.low
  exact ⟨cell, h1, h2, h3⟩
end
theorem pnJ4 : plainName RJ4 = true := by decide +kernel
theorem pnJ7 : plainName RJ7 = true := by decide +kernel
theorem pnJ8 : plainName RJ8 = true := by decide +kernel
theorem cdJ4_coder : ZCode yJ4_coder cJ4_coder 1 (some .byte) [] := Or.inl ⟨rfl, q767⟩
theorem cdJ4_isLatin1 : ZCode yJ4_isLatin1 cJ4_isLatin1 1 (some .boolean) [] := Or.inl ⟨rfl, q777⟩
theorem cdJ4_length : ZCode yJ4_length cJ4_length 1 (some .int) [] := Or.inl ⟨rfl, q763⟩
theorem cdJ4_charAt : ZCode yJ4_charAt cJ4_charAt 2 (some .char) [] := Or.inl ⟨rfl, q773⟩
theorem cdJ4_checkIndex : ZCode yJ4_checkIndex cJ4_checkIndex 2 none [] := Or.inl ⟨rfl, q783⟩
theorem cdJ7_charAt : ZCode yJ7_charAt cJ7_charAt 2 (some .char) [] := Or.inl ⟨rfl, q780⟩
theorem cdJ8_checkIndex : ZCode yJ8_checkIndex cJ8_checkIndex 3 (some .int) [] := Or.inl ⟨rfl, q788⟩
theorem vvJ4_335 : ZV RJ4 335 RJ4 yJ4_coder 0 := ⟨Or.inl q764, q765, q766, by decide, by decide⟩
theorem vvJ4_492 : ZV RJ4 492 RJ4 yJ4_isLatin1 0 := ⟨Or.inl q774, q775, q776, by decide, by decide⟩
theorem vsJ4_495 : ZS RJ4 495 yJ7_charAt 2 := ⟨Or.inl q778, q779, q163, by decide, by decide⟩
theorem vsJ7_9 : ZS RJ7 9 yJ4_checkIndex 2 := ⟨Or.inl q781, q782, q158, by decide, by decide⟩
theorem vsJ4_1059 : ZS RJ4 1059 yJ8_checkIndex 3 := ⟨Or.inl q786, q787, q164, by decide, by decide⟩
theorem m_J4_coder {l : Launch} {G : ZG} (i : Nat) (hi : i < 31) (σ : ZT) : ZM l G yJ4_coder cJ4_coder 1 (some .byte) [] 1 [.ref (gS G i)] σ (.returned (some (.int 0))) σ := by
  refine ZM.of [(0, .ref (gS G i))] rfl (Nat.le_of_ble_eq_true rfl) fun X (C : ZC G RJ4 "coder" cJ4_coder 1 (some .byte) [] X 1) => ?_
  have hS := C.S
  refine z_gets (q := 3) C hS.2.2.1 q768 dJ4_coder_0 rfl ?_
  have hf : (if (1 : Int32) = 0 then (none : Option Unit) else some ()) = some () := rfl
  refine z_ifeq (q := 6) (tgt := 13) C dJ4_coder_3 (by decide) rfl hf (fun c hf => by cases hf) (fun c hf => ?_)
  refine z_aload_n (q := 7) (i := 0) C 0 dJ4_coder_6 rfl rfl rfl ?_
  refine z_getOF (q := 10) C (hS.2.1.1 i hi).2.1 q2295 dJ4_coder_7 rfl ?_
  refine z_goto (q := 14) C dJ4_coder_10 (by decide) ?_
  exact z_breturn (o := (0, σ)) C rfl rfl dJ4_coder_14 rfl
theorem m_J4_isLatin1 {l : Launch} {G : ZG} (i : Nat) (hi : i < 31) (σ : ZT) : ZM l G yJ4_isLatin1 cJ4_isLatin1 1 (some .boolean) [] 1 [.ref (gS G i)] σ (.returned (some (.int 1))) σ := by
  refine ZM.of [(0, .ref (gS G i))] rfl (Nat.le_of_ble_eq_true rfl) fun X (C : ZC G RJ4 "isLatin1" cJ4_isLatin1 1 (some .boolean) [] X 1) => ?_
  have hS := C.S
  refine z_gets (q := 3) C hS.2.2.1 q768 dJ4_isLatin1_0 rfl ?_
  have hf : (if (1 : Int32) = 0 then (none : Option Unit) else some ()) = some () := rfl
  refine z_ifeq (q := 6) (tgt := 17) C dJ4_isLatin1_3 (by decide) rfl hf (fun c hf => by cases hf) (fun c hf => ?_)
  refine z_aload_n (q := 7) (i := 0) C 0 dJ4_isLatin1_6 rfl rfl rfl ?_
  refine z_getOF (q := 10) C (hS.2.1.1 i hi).2.1 q2295 dJ4_isLatin1_7 rfl ?_
  have hf : (if (0 : Int32) = 0 then some () else (none : Option Unit)) = some () := rfl
  refine z_ifne (q := 13) (tgt := 17) C dJ4_isLatin1_10 (by decide) rfl hf (fun c hf => by cases hf) (fun c hf => ?_)
  refine z_iconst (q := 14) C (1 : Int32) dJ4_isLatin1_13 (by decide) rfl ?_
  refine z_goto (q := 18) C dJ4_isLatin1_14 (by decide) ?_
  exact z_zreturn (o := (1, σ)) C rfl rfl dJ4_isLatin1_18 rfl
theorem m_J4_length {l : Launch} {G : ZG} (i : Nat) (hi : i < 31) (σ : ZT) : ZM l G yJ4_length cJ4_length 1 (some .int) [] 2 [.ref (gS G i)] σ (.returned (some (.int (nI (zSl.getD i 0))))) σ := by
  refine ZM.of [(0, .ref (gS G i))] rfl (Nat.le_of_ble_eq_true rfl) fun X (C : ZC G RJ4 "length" cJ4_length 1 (some .int) [] X 2) => ?_
  have hS := C.S
  refine z_aload_n (q := 1) (i := 0) C 0 dJ4_length_0 rfl rfl rfl ?_
  refine z_getOF (q := 4) C (hS.2.1.1 i hi).2.2.1 q2294 dJ4_length_1 rfl ?_
  refine z_tlen (q := 5) C (hS.2.1.1 i hi).2.2.2 dJ4_length_4 rfl ?_
  refine z_aload_n (q := 6) (i := 0) C 0 dJ4_length_5 rfl rfl rfl ?_
  refine zcall_go (q := 9) (rest := [.int (nI (zSl.getD i 0))]) C (m_J4_coder i hi σ) (by decide) pnJ4 cdJ4_coder dJ4_length_6 (Nat.le_of_ble_eq_true rfl) (zinv_VR (As := []) C (zstr_recv C hi) vvJ4_335 cdJ4_coder dJ4_length_6 rfl) rfl ?_
  refine z_ishr (q := 10) C dJ4_length_9 rfl ?_
  rw [sb_shr0]
  exact z_ireturn (o := (nI (zSl.getD i 0), σ)) C rfl dJ4_length_10 rfl
theorem m_J8_checkIndex {l : Launch} {G : ZG} (i n : Int32) (r : Option Nat) (h0 : ¬ i < 0) (hn : i < n) (σ : ZT) : ZM l G yJ8_checkIndex cJ8_checkIndex 3 (some .int) [] 1 [.int i, .int n, va_rf r] σ (.returned (some (.int i))) σ := by
  have hc : (va_rf r).category = 1 := by cases r <;> rfl
  have e1 : lv_args 0 [.int i, .int n, va_rf r] = [(0, .int i), (1, .int n), (2, va_rf r)] := by cases r <;> rfl
  have e2 : (lg_sl [.int i, .int n, va_rf r]).length ≤ 3 := by cases r <;> exact Nat.le_of_ble_eq_true rfl
  refine ZM.of [(0, .int i), (1, .int n), (2, va_rf r)] e1 e2 fun X (C : ZC G RJ8 "checkIndex" cJ8_checkIndex 3 (some .int) [] X 1) => ?_
  refine z_iload_n (q := 1) (i := 0) C 0 dJ8_checkIndex_0 rfl rfl rfl ?_
  have hf : (if i < 0 then (none : Option Unit) else some ()) = some () := if_neg h0
  refine z_iflt (q := 4) (tgt := 9) C dJ8_checkIndex_1 (by decide) rfl hf (fun c hf => by cases hf) (fun c hf => ?_)
  refine z_iload_n (q := 5) (i := 0) C 0 dJ8_checkIndex_4 rfl rfl rfl ?_
  refine z_iload_n (q := 6) (i := 1) C 1 dJ8_checkIndex_5 rfl rfl rfl ?_
  have hf : (if i < n then some () else (none : Option Unit)) = some () := if_pos hn
  refine z_icmplt (q := 9) (tgt := 16) C dJ8_checkIndex_6 (by decide) rfl hf (fun c hf => ?_) (fun c hf => by cases hf)
  refine z_iload_n (q := 17) (i := 0) C 0 dJ8_checkIndex_16 rfl rfl rfl ?_
  exact z_ireturn (o := (i, σ)) C rfl dJ8_checkIndex_17 rfl
theorem m_J4_checkIndex {l : Launch} {G : ZG} (i n : Int32) (h0 : ¬ i < 0) (hn : i < n) (σ : ZT) : ZM l G yJ4_checkIndex cJ4_checkIndex 2 none [] 2 [.int i, .int n] σ (.returned none) σ := by
  refine ZM.of [(0, .int i), (1, .int n)] rfl (Nat.le_of_ble_eq_true rfl) fun X (C : ZC G RJ4 "checkIndex" cJ4_checkIndex 2 none [] X 2) => ?_
  refine z_iload_n (q := 1) (i := 0) C 0 dJ4_checkIndex_0 rfl rfl rfl ?_
  refine z_iload_n (q := 2) (i := 1) C 1 dJ4_checkIndex_1 rfl rfl rfl ?_
  have key : ∀ r : Option Nat, va_Z "jdk/internal/util/Preconditions" "SIOOBE_FORMATTER" "Ljava/util/function/BiFunction;" (va_rf r) (fun q => gb G ≤ q) (xs X) (gH G) → ZW l G 2 X (ZQ G X (.returned none) σ) σ 2 [(0, .int i), (1, .int n)] [.int n, .int i] := by
    intro r hZ
    refine z_gets (q := 5) C hZ q784 dJ4_checkIndex_2 rfl ?_
    refine zcall_go (q := 8) (rest := []) C (m_J8_checkIndex i n r h0 hn σ) (by decide) pnJ8 cdJ8_checkIndex dJ4_checkIndex_5 (Nat.le_of_ble_eq_true rfl) (zinv_S (As := [.int i, .int n, va_rf r]) C vsJ4_1059 cdJ8_checkIndex dJ4_checkIndex_5 rfl) rfl ?_
    refine z_pop (q := 9) C dJ4_checkIndex_8 rfl rfl ?_
    exact z_return (o := σ) C rfl dJ4_checkIndex_9 rfl
  rcases C.S.2.2.2.2.2.1 with h | ⟨t, h⟩
  · exact key none h
  · exact key (some t) h
theorem nclt {k : Int32} {n : Nat} (hn : n < 2 ^ 31) (h0 : ¬ k < 0) (h : k < nI n) : k.toNatClampNeg < n := by
  obtain ⟨j, hj, rfl⟩ := nI_of h0
  rw [nI_clamp hj]
  exact (nI_ltI hj hn).mp h
theorem m_J7_charAt {l : Launch} {G : ZG} (i : Nat) (k : Int32) (hi : i < 31) (h0 : ¬ k < 0) (hn : k < nI (zSl.getD i 0)) (σ : ZT) : ZM l G yJ7_charAt cJ7_charAt 2 (some .char) [] 3 [.ref (gV G i), .int k] σ (.returned (some (.int ((zSb.getD i []).getD k.toNatClampNeg 0)))) σ := by
  obtain ⟨z1, z2, z3⟩ := zs_ok i hi
  have hlt : k.toNatClampNeg < zSl.getD i 0 := nclt (by omega) h0 hn
  have hb := z3 ((zSb.getD i []).getD k.toNatClampNeg 0) (getD_mem (by omega))
  refine ZM.of [(0, .ref (gV G i)), (1, .int k)] rfl (Nat.le_of_ble_eq_true rfl) fun X (C : ZC G RJ7 "charAt" cJ7_charAt 2 (some .char) [] X 3) => ?_
  have hT := (C.S.2.1.1 i hi).2.2.2
  refine z_iload_n (q := 1) (i := 1) C 1 dJ7_charAt_0 rfl rfl rfl ?_
  refine z_aload_n (q := 2) (i := 0) C 0 dJ7_charAt_1 rfl rfl rfl ?_
  refine z_tlen (q := 3) C hT dJ7_charAt_2 rfl ?_
  refine zcall_go (q := 6) (rest := []) C (m_J4_checkIndex k (nI (zSl.getD i 0)) h0 hn σ) (by decide) pnJ4 cdJ4_checkIndex dJ7_charAt_3 (Nat.le_of_ble_eq_true rfl) (zinv_S (As := [.int k, .int (nI (zSl.getD i 0))]) C vsJ7_9 cdJ4_checkIndex dJ7_charAt_3 rfl) rfl ?_
  refine z_aload_n (q := 7) (i := 0) C 0 dJ7_charAt_6 rfl rfl rfl ?_
  refine z_iload_n (q := 8) (i := 1) C 1 dJ7_charAt_7 rfl rfl rfl ?_
  refine z_tb (q := 9) C hT ⟨h0, hlt⟩ rfl dJ7_charAt_8 rfl ?_
  refine z_sipush (q := 12) C (255 : Int32) dJ7_charAt_9 (by decide) rfl ?_
  refine z_iand (q := 13) C dJ7_charAt_12 rfl ?_
  refine z_i2c (q := 14) C dJ7_charAt_13 rfl ?_
  rw [hb.1]
  exact z_creturn (o := ((zSb.getD i []).getD k.toNatClampNeg 0, σ)) C rfl hb.2 dJ7_charAt_14 rfl
theorem m_J4_charAt {l : Launch} {G : ZG} (i : Nat) (k : Int32) (hi : i < 31) (h0 : ¬ k < 0) (hn : k < nI (zSl.getD i 0)) (σ : ZT) : ZM l G yJ4_charAt cJ4_charAt 2 (some .char) [] 4 [.ref (gS G i), .int k] σ (.returned (some (.int ((zSb.getD i []).getD k.toNatClampNeg 0)))) σ := by
  obtain ⟨z1, z2, z3⟩ := zs_ok i hi
  have hlt : k.toNatClampNeg < zSl.getD i 0 := nclt (by omega) h0 hn
  have hb := z3 ((zSb.getD i []).getD k.toNatClampNeg 0) (getD_mem (by omega))
  refine ZM.of [(0, .ref (gS G i)), (1, .int k)] rfl (Nat.le_of_ble_eq_true rfl) fun X (C : ZC G RJ4 "charAt" cJ4_charAt 2 (some .char) [] X 4) => ?_
  refine z_aload_n (q := 1) (i := 0) C 0 dJ4_charAt_0 rfl rfl rfl ?_
  refine zcall_go (q := 4) (rest := []) C (m_J4_isLatin1 i hi σ) (by decide) pnJ4 cdJ4_isLatin1 dJ4_charAt_1 (Nat.le_of_ble_eq_true rfl) (zinv_VR (As := []) C (zstr_recv C hi) vvJ4_492 cdJ4_isLatin1 dJ4_charAt_1 rfl) rfl ?_
  have hf : (if (1 : Int32) = 0 then (none : Option Unit) else some ()) = some () := rfl
  refine z_ifeq (q := 7) (tgt := 16) C dJ4_charAt_4 (by decide) rfl hf (fun c hf => by cases hf) (fun c hf => ?_)
  refine z_aload_n (q := 8) (i := 0) C 0 dJ4_charAt_7 rfl rfl rfl ?_
  refine z_getOF (q := 11) C (C.S.2.1.1 i hi).2.2.1 q2294 dJ4_charAt_8 rfl ?_
  refine z_iload_n (q := 12) (i := 1) C 1 dJ4_charAt_11 rfl rfl rfl ?_
  refine zcall_go (q := 15) (rest := []) C (m_J7_charAt i k hi h0 hn σ) (by decide) pnJ7 cdJ7_charAt dJ4_charAt_12 (Nat.le_of_ble_eq_true rfl) (zinv_S (As := [.ref (gV G i), .int k]) C vsJ4_495 cdJ7_charAt dJ4_charAt_12 rfl) rfl ?_
  exact z_creturn (o := ((zSb.getD i []).getD k.toNatClampNeg 0, σ)) C rfl hb.2 dJ4_charAt_15 rfl
section
variable {l : Launch} {G : ZG} {own nm : String} {cc : ByteArray} {nL : Nat} {ret : Option FieldType} {tb : List (Nat × Nat × Nat × Nat)} {X : ZX} {d : Nat} {Q : State → Prop} {σ σ' : ZT} {pc q : Nat} {lv : List (Nat × Value)} {st rest : List Value} {β : Type} {out : β}
theorem z_strLen {kf : Int32 → Option β} (C : ZC G own nm cc nL ret tb X d) {idx i : Nat} (w : Cond.methodLink own idx yJ4_length ∈ lw_all) (hd : decode cc pc = .ok (.invokevirtual idx, 3)) (hd' : 2 < d) (hw : (rest.map fun v => v.category).sum + (1 + 11) ≤ 60) (hf : (zslen i).bind kf = some out) (hq : pc + 3 = q) (kk : ∀ v : Int32, kf v = some out → ZW l G nL X Q σ q lv (.int v :: rest)) : ZW l G nL X Q σ pc lv (.ref (gS G i) :: rest) := by
  unfold zslen at hf
  by_cases hi : i < 31
  · rw [if_pos hi] at hf
    exact zcall_go C (m_J4_length i hi σ) hd' pnJ4 cdJ4_length hd hw (zinv_VR (As := []) C (zstr_recv C hi) ⟨Or.inl w, q761, q762, by decide, by decide⟩ cdJ4_length hd rfl) hq (kk _ hf)
  · rw [if_neg hi] at hf; cases hf
theorem z_strChr {kf : Int32 → Option β} (C : ZC G own nm cc nL ret tb X d) {idx i : Nat} {k : Int32} (w : Cond.methodLink own idx yJ4_charAt ∈ lw_all) (hd : decode cc pc = .ok (.invokevirtual idx, 3)) (hd' : 4 < d) (hw : (rest.map fun v => v.category).sum + (2 + 11) ≤ 60) (hf : (zschr i k).bind kf = some out) (hq : pc + 3 = q) (kk : ∀ v : Int32, kf v = some out → ZW l G nL X Q σ q lv (.int v :: rest)) : ZW l G nL X Q σ pc lv (.int k :: .ref (gS G i) :: rest) := by
  unfold zschr at hf
  by_cases hi : i < 31 ∧ ¬ k < 0 ∧ k < nI (zSl.getD i 0)
  · rw [if_pos hi] at hf
    exact zcall_go C (m_J4_charAt i k hi.1 hi.2.1 hi.2.2 σ) hd' pnJ4 cdJ4_charAt hd hw (zinv_VR (As := [.int k]) C (zstr_recv C hi.1) (show ZV own idx RJ4 yJ4_charAt 1 from ⟨Or.inl w, q771, q772, by decide, by decide⟩) cdJ4_charAt hd rfl) hq (kk _ hf)
  · rw [if_neg hi] at hf; cases hf
theorem z_objInit (C : ZC G own nm cc nL ret tb X d) {idx a : Nat} (w : Cond.methodLink own idx objectInit ∈ lw_all) (hd : decode cc pc = .ok (.invokespecial idx, 3)) (hq : pc + 3 = q) (hd0 : 0 < d) (hw : (rest.map fun v => v.category).sum ≤ 40) (kk : ZW l G nL X Q σ q lv rest) : ZW l G nL X Q σ pc lv (.ref a :: rest) := by
  subst hq
  intro H locs ls hP hL h1 h2 hl
  have hfr := C.fr
  have hlo := C.lo
  exact W.objInit C.x C.b C.ow (C.w w) (C.w q183) (C.w q184) rfl (by rw [C.ml]; exact hl.1) rfl hd (by omega) (by show 2 * 0 + (rest.map fun v => v.category).sum + 12 ≤ _; omega) (kk H locs ls hP hL h1 h2 hl)
theorem z_mmax (C : ZC G own nm cc nL ret tb X d) {idx : Nat} {x y : Int32} (w : Cond.methodLink own idx yJ10_max ∈ lw_all) (hd : decode cc pc = .ok (.invokestatic idx, 3)) (hd0 : 0 < d) (hw : (rest.map fun v => v.category).sum ≤ 40) (hq : pc + 3 = q) (kk : ZW l G nL X Q σ q lv (.int (if x < y then y else x) :: rest)) : ZW l G nL X Q σ pc lv (.int y :: .int x :: rest) := by
  subst hq
  intro H locs ls hP hL h1 h2 hl
  have hfr := C.fr
  have hlo := C.lo
  have hce := C.ce
  have hsl := C.sl
  exact va_mmax C.x C.b (by rw [C.ml]; exact hl.1.symm) C.ow (C.w w) (C.w q1145) (C.w q169) (C.w q1146) (by omega) (by omega) (by omega) (by omega) hd (kk H locs ls hP hL h1 h2 hl)
theorem z_mmin (C : ZC G own nm cc nL ret tb X d) {idx : Nat} {x y : Int32} (w : Cond.methodLink own idx yJ10_min ∈ lw_all) (hd : decode cc pc = .ok (.invokestatic idx, 3)) (hd0 : 0 < d) (hw : (rest.map fun v => v.category).sum ≤ 40) (hq : pc + 3 = q) (kk : ZW l G nL X Q σ q lv (.int (if y < x then y else x) :: rest)) : ZW l G nL X Q σ pc lv (.int y :: .int x :: rest) := by
  subst hq
  intro H locs ls hP hL h1 h2 hl
  have hfr := C.fr
  have hlo := C.lo
  have hce := C.ce
  have hsl := C.sl
  exact va_mmin C.x C.b (by rw [C.ml]; exact hl.1.symm) C.ow (C.w w) (C.w q1142) (C.w q169) (C.w q1143) (by omega) (by omega) (by omega) (by omega) hd (kk H locs ls hP hL h1 h2 hl)
theorem z_mabsl (C : ZC G own nm cc nL ret tb X d) {idx : Nat} {x : Int64} (w : Cond.methodLink own idx yJ10_abs ∈ lw_all) (hd : decode cc pc = .ok (.invokestatic idx, 3)) (hd0 : 0 < d) (hw : (rest.map fun v => v.category).sum ≤ 40) (hq : pc + 3 = q) (kk : ZW l G nL X Q σ q lv (.long (if 0 < x then x else -x) :: rest)) : ZW l G nL X Q σ pc lv (.long x :: rest) := by
  subst hq
  intro H locs ls hP hL h1 h2 hl
  have hfr := C.fr
  have hlo := C.lo
  have hce := C.ce
  have hsl := C.sl
  exact va_mabs_long C.x C.b (by rw [C.ml]; exact hl.1.symm) C.ow (C.w w) (C.w q1563) (C.w q169) (C.w q1564) (by omega) (by omega) (by omega) (by omega) hd (kk H locs ls hP hL h1 h2 hl)
end
