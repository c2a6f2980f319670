set_option maxRecDepth 100000
/-! ===== a method's throw by the machine, over the abstract heap ===== -/
def zNase : String := "java/lang/NegativeArraySizeException"
def zRun : List String := ["java/lang/RuntimeException", "java/lang/Exception"]
def zSts : List Cond := [.isRef (.static "java/lang/Throwable" "UNASSIGNED_STACK" "[Ljava/lang/StackTraceElement;"), .isRef (.static "java/lang/Throwable" "SUPPRESSED_SENTINEL" "Ljava/util/List;"), .laysStatic "java/lang/Throwable" "UNASSIGNED_STACK" "[Ljava/lang/StackTraceElement;", .laysStatic "java/lang/Throwable" "SUPPRESSED_SENTINEL" "Ljava/util/List;"]
theorem zat_idx : ∀ w ∈ Bundle.messageArmAtoms Bundle.idxN Bundle.idxUp, w ∈ lw_all ∨ w ∈ zNw ∨ w ∈ zSts := by decide +kernel
theorem zat_nase : ∀ w ∈ Bundle.messageArmAtoms zNase zRun, w ∈ lw_all ∨ w ∈ zNw ∨ w ∈ zSts := by decide +kernel
section
variable {l : Launch} {G : ZG} {own nm : String} {cc : ByteArray} {nL : Nat} {ret : Option FieldType} {tb : List (Nat × Nat × Nat × Nat)} {X : ZX} {d : Nat} {Q : State → Prop} {σ σ' : ZT} {pc q : Nat} {lv : List (Nat × Value)} {st rest : List Value} {β : Type} {out : β}
/-- below gb G the heap at the method's entry is what it was -/
def zOld (G : ZG) (X : ZX) : Prop := ∀ q : Nat, q < gb G → (xs X).heap[q]? = (gH G)[q]?
theorem zisref {Cn n ds : String} (hO : zOld G X) (h : va_Zq Cn n ds (fun q => gb G ≤ q) (xs X) (gH G)) : (Cond.isRef (.static Cn n ds)).before (xa X) (xs X) = true := by
  have key : ∀ v : Value, va_Z Cn n ds v (fun q => gb G ≤ q) (xs X) (gH G) → (Term.static Cn n ds).eval (xa X) (xs X) none [] (xs X) = some v := by
    intro v hz
    obtain ⟨cf, kf, fi, f, a, cell, h1, h2, h3, h4, h5, h6, h7, h8⟩ := hz
    exact Term.static_eval (s := xs X) h1 h2 h4 (by rw [hO a (by omega)]; exact h5) h6 h7
  rcases h with h | ⟨t, h⟩
  · simp [Cond.before, Cond.holds, Cond.value, key _ h]
  · simp [Cond.before, Cond.holds, Cond.value, key _ h]
theorem zatoms (C : ZC G own nm cc nL ret tb X d) (hO : zOld G X) {ws : List Cond} (hw : ∀ w ∈ ws, w ∈ lw_all ∨ w ∈ zNw ∨ w ∈ zSts) : ∀ w ∈ ws, w.before (xa X) (xs X) = true := by
  intro w h
  have hO' : ∀ q : Nat, ¬ gb G ≤ q → (xs X).heap[q]? = (gH G)[q]? := fun q hq => hO q (by omega)
  rcases hw w h with h | h | h
  · exact C.w h
  · have g := (List.mem_filter.mp h).2
    have k := C.nw h
    cases w <;> first | exact va_Nw.use rfl k | (simp [isNw] at g)
  · simp only [zSts, List.mem_cons, List.not_mem_nil, or_false] at h
    rcases h with rfl | rfl | rfl | rfl
    · exact zisref hO C.S.2.2.2.1
    · exact zisref hO C.S.2.2.2.2.1
    · exact zLs.before C.S.2.2.2.2.2.2.1 hO'
    · exact zLs.before C.S.2.2.2.2.2.2.2 hO'
end
