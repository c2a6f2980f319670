set_option maxRecDepth 100000
/-! ===== rows of arrays set whole ===== -/
section
variable {σ : ZT}
def up (f : Nat → Int32) (i : Nat) (v : Int32) : Nat → Int32 := fun j => if j = i then v else f j
theorem up_self (f : Nat → Int32) (i : Nat) : up f i (f i) = f := by
  funext j; unfold up; split <;> simp_all
theorem sAI_r (a i : Nat) (v : Int32) : sAI σ a i v = sAIr σ a (up (zAI σ a) i v) := by
  unfold sAI sAIr
  have : z2 (zAI σ) a i v = zrow (zAI σ) a (up (zAI σ a) i v) := by
    funext b j
    unfold z2 zrow up
    by_cases hb : b = a
    · subst hb; simp
    · simp [hb]
  rw [this]
theorem sAIr_self (a : Nat) : sAIr σ a (zAI σ a) = σ := by
  unfold sAIr
  have : zrow (zAI σ) a (zAI σ a) = zAI σ := by
    funext b
    unfold zrow
    split <;> simp_all
  rw [this]
  rfl
theorem sAIr_sAIr (a : Nat) (r s : Nat → Int32) : sAIr (sAIr σ a r) a s = sAIr σ a s := by
  unfold sAIr
  have : zrow (zrow (zAI σ) a r) a s = zrow (zAI σ) a s := by
    funext b
    unfold zrow
    split <;> rfl
  show (zK σ, zI σ, zL σ, zR σ, zrow (zrow (zAI σ) a r) a s, zAL σ, zAR σ, zN σ, zsz σ, zbc σ, zbs σ) = _
  rw [this]
theorem sAIr_comm {a b : Nat} (hab : a ≠ b) (r s : Nat → Int32) : sAIr (sAIr σ a r) b s = sAIr (sAIr σ b s) a r := by
  have : zrow (zrow (zAI σ) a r) b s = zrow (zrow (zAI σ) b s) a r := by
    funext c
    unfold zrow
    by_cases h1 : c = b
    · subst h1; simp [Ne.symm hab]
    · simp [h1]
  show (zK σ, zI σ, zL σ, zR σ, zrow (zrow (zAI σ) a r) b s, zAL σ, zAR σ, zN σ, zsz σ, zbc σ, zbs σ) = (zK σ, zI σ, zL σ, zR σ, zrow (zrow (zAI σ) b s) a r, zAL σ, zAR σ, zN σ, zsz σ, zbc σ, zbs σ)
  rw [this]
theorem zAIr_at (a : Nat) (r : Nat → Int32) : zAI (sAIr σ a r) a = r := by
  show (if a = a then r else _) = r
  rw [if_pos rfl]
theorem zAIr_ne {a b : Nat} (r : Nat → Int32) (hb : b ≠ a) : zAI (sAIr σ a r) b = zAI σ b := by
  show (if b = a then r else _) = _
  rw [if_neg hb]
end
/-! ===== moves ===== -/
def sOth (T : Nat → Int32) (br : Nat) (v : Int32) : Int32 := if v = T (14 + 9 * br) then T (14 + 9 * br + 1) else T (14 + 9 * br)
def sGo (T nw : Nat → Int32) (a : Nat) (b : Option Nat) (br : Nat) : Nat → Int32 := match b with
  | none => up nw a (sOth T br (nw a))
  | some q => up (up nw a (sOth T br (nw a))) q (sOth T br (nw q))
/-- a move: its kind, who, with whom, over or of what -/
abbrev Mv : Type := Nat × Nat × Option Nat × Option Nat
abbrev St : Type := (Nat → Int32) × (Nat → Int32)
/-- what is thought otherwise: a bridge that is not there, where a stone more lies, its weight -/
abbrev Ot : Type := Int32 × Int32 × Int32
def sMv (T : Nat → Int32) (w : Ot) (v : Mv) (s : St) : Option St :=
  if v.1 < 2 then match v.2.2.2 with
    | none => none
    | some br => if nI br = w.1 then none else if 0 < sWhy T s.1 s.2 w.1 w.2.1 w.2.2 v.2.1 v.2.2.1 br then none else some (sGo T s.1 v.2.1 v.2.2.1 br, s.2)
  else if v.1 = 2 then match v.2.2.2 with
    | none => none
    | some l => if s.2 l = s.1 v.2.1 ∧ lo T s.2 v.2.1 = none ∧ ¬ T (86 + 5 * v.2.1 + 3) < T (106 + 2 * l) then some (s.1, up s.2 l (nI (6 + v.2.1))) else none
  else match lo T s.2 v.2.1 with
    | none => none
    | some l => some (s.1, up s.2 l (s.1 v.2.1))
/-- a move's numbers lie within the town -/
def MvW (T : Nat → Int32) (v : Mv) : Prop := v.2.1 < fn T 2 ∧ (v.1 < 2 → (∀ q, v.2.2.1 = some q → q < fn T 2 ∧ q ≠ v.2.1) ∧ ∃ br, v.2.2.2 = some br ∧ br < fn T 1) ∧ (v.1 = 2 → ∃ l, v.2.2.2 = some l ∧ l < fn T 3)
section
variable {m : Nat} {σ : ZT}
theorem q_hangsBy (h : MInv m σ) (hT : TW (zAI σ (m + 1))) {b : Nat} (hb : b < fn (zAI σ (m + 1)) 1) (less : Int32) : f_X9_hangsBy m (nI b) less σ = some (bI (sHang (zAI σ (m + 1)) (zAI σ (m + 9)) (zAI σ (m + 10)) (zI σ 926 m) (zI σ 928 m) (zI σ 927 m) b less), σ) := by
  have h8 := hT.2.2.1
  have hp := hT.2.1
  have h9 := hT.2.2.2.2.2.1 b hb
  have e1 : loopC (fun s : (Int32 × Int32 × ZT) => f_X9_hangsBy_L5 m (nI b) less s.1 s.2.1 s.2.2) (nI 0, nI 0, σ) = some (sPull (zAI σ (m + 1)) (zI σ 926 m) b (b + 1), σ) := by
    refine loop_go (fun k => (sPull (zAI σ (m + 1)) (zI σ 926 m) b k, nI k, σ)) (b + 1) _ (fun k hk => ?_) ?_
    · unfold f_X9_hangsBy_L5 f_X9_hangsBy_J46_5 f_X9_hangsBy_J47_5 f_X9_ofBridge
      simp (disch := first | exact h | omega | (simp only [Mi_sI, Mi_sL, Mi_sAI, Mi_sAL, Mi_sAIr, Mi_sALr]; exact h)) [mR900, mR901, mR905, mR906, mR907, mR908, mR909, mR921, mR924, mR925, mR929, mR930, mR931, mR932, mR934, mR935, mR936, mR940, mR949, mR950, mR951, ml_at, ml_names, ml_sort, ml_trayMany, ml_trays, ml_tape, ml_text, ml_opened, ml_now, ml_lies, ml_moveKind, ml_moveOne, ml_moveTwo, ml_moveThird, ml_far, ml_come, ml_good, ml_way, ml_rounds, ml_told0, ml_endAt, ms_at, ms_names, ms_sort, ms_trayMany, ms_trays, ms_tape, ms_text, ms_opened, ms_now, ms_lies, ms_moveKind, ms_moveOne, ms_moveTwo, ms_moveThird, ms_far, ms_come, ms_good, ms_way, ms_rounds, ms_told0, ms_endAt, mgI, mgL, mpI, mpL, mpZ, mvc, bnd2_s, bind_s, rz, lI, mI_eq, nI_add, pk_mul, nlt, nle, neq, nI_mI, mI_nI, nltm, mltn, nsub, zremN, zdivN, q_takesOf h hT]
      rw [if_neg (by omega)]
      unfold sPull
      rw [foldN]
      by_cases e1 : nI k = zI σ 926 m
      · simp [e1]
      · by_cases e2 : zAI σ (m + 1) (14 + 9 * k + 2) = zAI σ (m + 1) (14 + 9 * b + 2)
        · simp [e1, e2]
        · simp [e1, e2]
    · unfold f_X9_hangsBy_L5
      simp (disch := first | exact h | omega | (simp only [Mi_sI, Mi_sL, Mi_sAI, Mi_sAL, Mi_sAIr, Mi_sALr]; exact h)) [mR900, mR901, mR905, mR906, mR907, mR908, mR909, mR921, mR924, mR925, mR929, mR930, mR931, mR932, mR934, mR935, mR936, mR940, mR949, mR950, mR951, ml_at, ml_names, ml_sort, ml_trayMany, ml_trays, ml_tape, ml_text, ml_opened, ml_now, ml_lies, ml_moveKind, ml_moveOne, ml_moveTwo, ml_moveThird, ml_far, ml_come, ml_good, ml_way, ml_rounds, ml_told0, ml_endAt, ms_at, ms_names, ms_sort, ms_trayMany, ms_trays, ms_tape, ms_text, ms_opened, ms_now, ms_lies, ms_moveKind, ms_moveOne, ms_moveTwo, ms_moveThird, ms_far, ms_come, ms_good, ms_way, ms_rounds, ms_told0, ms_endAt, mgI, mgL, mpI, mpL, mpZ, mvc, bnd2_s, bind_s, rz, lI, mI_eq, nI_add, pk_mul, nlt, nle, neq, nI_mI, mI_nI, nltm, mltn, nsub, zremN, zdivN]
  unfold f_X9_hangsBy f_X9_hangsBy_J76 f_X9_ofBridge
  have hs : zAI σ (m + 1) (14 + 9 * b + 2) = nI (fn (zAI σ (m + 1)) (14 + 9 * b + 2)) := h9.1 2 (by decide)
  simp (disch := first | exact h | omega | (simp only [Mi_sI, Mi_sL, Mi_sAI, Mi_sAL, Mi_sAIr, Mi_sALr]; exact h)) [mR900, mR901, mR905, mR906, mR907, mR908, mR909, mR921, mR924, mR925, mR929, mR930, mR931, mR932, mR934, mR935, mR936, mR940, mR949, mR950, mR951, ml_at, ml_names, ml_sort, ml_trayMany, ml_trays, ml_tape, ml_text, ml_opened, ml_now, ml_lies, ml_moveKind, ml_moveOne, ml_moveTwo, ml_moveThird, ml_far, ml_come, ml_good, ml_way, ml_rounds, ml_told0, ml_endAt, ms_at, ms_names, ms_sort, ms_trayMany, ms_trays, ms_tape, ms_text, ms_opened, ms_now, ms_lies, ms_moveKind, ms_moveOne, ms_moveTwo, ms_moveThird, ms_far, ms_come, ms_good, ms_way, ms_rounds, ms_told0, ms_endAt, mgI, mgL, mpI, mpL, mpZ, mvc, bnd2_s, bind_s, rz, lI, mI_eq, nI_add, pk_mul, nlt, nle, neq, nI_mI, mI_nI, nltm, mltn, nsub, zremN, zdivN, e1, hs, q_weightAt h hT]
  unfold sHang bI
  split <;> simp_all
end
