set_option maxRecDepth 100000
/-! ===== the law's script: an array of the caller's, below what is ours ===== -/
def RL : String := "SillBridgesLaw"
def zscr (sL : Nat) (sx : Nat → Int32) (i : Int32) : Option Int32 := if ¬ i < 0 ∧ i.toNatClampNeg < sL then some (sx i.toNatClampNeg) else none
def zScr (G : ZG) (X : ZX) (b L : Nat) (xs' : Nat → Int32) : Prop := b < gb G ∧ va_X b L xs' (xs X) (gH G)
section
variable {l : Launch} {G : ZG} {own nm : String} {cc : ByteArray} {nL : Nat} {ret : Option FieldType} {tb : List (Nat × Nat × Nat × Nat)} {X : ZX} {d : Nat} {Q : State → Prop} {σ σ' : ZT} {pc q : Nat} {lv : List (Nat × Value)} {st rest : List Value} {β : Type} {out : β}
theorem z_scr {kf : Int32 → Option β} (C : ZC G own nm cc nL ret tb X d) {b L : Nat} {sx : Nat → Int32} (hS : zScr G X b L sx) {i : Int32} (hd : decode cc pc = .ok (.iaload, 1)) (hf : (zscr L sx i).bind kf = some out) (hq : pc + 1 = q) (kk : ∀ v : Int32, kf v = some out → ZW l G nL X Q σ q lv (.int v :: st)) : ZW l G nL X Q σ pc lv (.int i :: .ref b :: st) := by
  subst hq
  unfold zscr at hf
  by_cases hK : ¬ i < 0 ∧ i.toNatClampNeg < L
  · rw [if_pos hK] at hf
    intro H locs ls hP hL h1 h2 hl
    obtain ⟨hb, scr, g1, g2, g3, g4, g5⟩ := hS
    have hin : vp_in i L := z_in hK
    exact W.iald (v := .int (sx i.toNatClampNeg)) C.x C.b (by rw [hP.2.2.1 b hb]; exact g1) g2 g3 (by rw [g4]; exact hin) (g5 _ hK.2) rfl rfl hd (kk _ hf H locs ls hP hL h1 h2 hl)
  · rw [if_neg hK] at hf; cases hf
theorem z_slen {kf : Int32 → Option β} (C : ZC G own nm cc nL ret tb X d) {b L : Nat} {sx : Nat → Int32} (hS : zScr G X b L sx) (hd : decode cc pc = .ok (.arraylength, 1)) (hf : (some (Int32.ofNat L)).bind kf = some out) (hq : pc + 1 = q) (kk : ∀ v : Int32, kf v = some out → ZW l G nL X Q σ q lv (.int v :: st)) : ZW l G nL X Q σ pc lv (.ref b :: st) := by
  subst hq
  intro H locs ls hP hL h1 h2 hl
  obtain ⟨hb, scr, g1, g2, g3, g4, g5⟩ := hS
  exact W.alen (n := Int32.ofNat L) C.x C.b (by rw [hP.2.2.1 b hb]; exact g1) g2 (by rw [g4] <;> rfl) rfl rfl hd (kk _ hf H locs ls hP hL h1 h2 hl)
end
