set_option maxRecDepth 100000
/-! ===== a town as a row of numbers (the model's slot): what is read of it ===== -/
def fn (T : Nat → Int32) (k : Nat) : Nat := (T k).toNatClampNeg
def TW (T : Nat → Int32) : Prop := (∀ k, k < 4 → T k = nI (fn T k)) ∧ fn T 0 ≤ 6 ∧ fn T 1 ≤ 8 ∧ fn T 2 ≤ 4 ∧ fn T 3 ≤ 2 ∧
  (∀ b, b < fn T 1 → (∀ i, i < 9 → T (14 + 9 * b + i) = nI (fn T (14 + 9 * b + i))) ∧ fn T (14 + 9 * b) < fn T 0 ∧ fn T (14 + 9 * b + 1) < fn T 0 ∧ fn T (14 + 9 * b) ≠ fn T (14 + 9 * b + 1) ∧ fn T (14 + 9 * b + 2) < fn T 0 ∧ fn T (14 + 9 * b + 3) ≤ 999 ∧ 1 ≤ fn T (14 + 9 * b + 4) ∧ fn T (14 + 9 * b + 4) ≤ 3 ∧ fn T (14 + 9 * b + 5) ≤ 9999 ∧ fn T (14 + 9 * b + 6) ≤ 99 ∧ fn T (14 + 9 * b + 7) ≤ 99 ∧ fn T (14 + 9 * b + 8) ≤ 15) ∧
  (∀ q, q < fn T 2 → T (86 + 5 * q) = nI (fn T (86 + 5 * q)) ∧ fn T (86 + 5 * q) ≤ 999 ∧ T (86 + 5 * q + 1) = nI (fn T (86 + 5 * q + 1)) ∧ fn T (86 + 5 * q + 1) < fn T 0 ∧ (T (86 + 5 * q + 2) = mI ∨ (T (86 + 5 * q + 2) = nI (fn T (86 + 5 * q + 2)) ∧ fn T (86 + 5 * q + 2) < fn T 0)) ∧ T (86 + 5 * q + 3) = nI (fn T (86 + 5 * q + 3)) ∧ fn T (86 + 5 * q + 3) ≤ 999 ∧ T (86 + 5 * q + 4) = nI (fn T (86 + 5 * q + 4)) ∧ fn T (86 + 5 * q + 4) ≤ 1) ∧
  ∀ o, o < fn T 3 → T (106 + 2 * o) = nI (fn T (106 + 2 * o)) ∧ fn T (106 + 2 * o) ≤ 999 ∧ T (106 + 2 * o + 1) = nI (fn T (106 + 2 * o + 1)) ∧ fn T (106 + 2 * o + 1) < fn T 0
/-- who carries: the first load of p -/
def lo (T ly : Nat → Int32) (p : Nat) : Option Nat := if 0 < fn T 3 ∧ ly 0 = nI (6 + p) then some 0 else if 1 < fn T 3 ∧ ly 1 = nI (6 + p) then some 1 else none
def oI (o : Option Nat) : Int32 := match o with
  | none => mI
  | some k => nI k
def sLw (T ly : Nat → Int32) (p : Nat) : Int32 := match lo T ly p with
  | none => nI 0
  | some l => T (106 + 2 * l)
def sBurd (T ly : Nat → Int32) (p : Nat) : Int32 := T (86 + 5 * p) + sLw T ly p
def sWgt (T nw ly : Nat → Int32) (ma mo : Int32) (p : Nat) : Int32 := foldN (fun l a => a + if ly l = nI p then T (106 + 2 * l) else nI 0) (fn T 3) (foldN (fun q a => a + if nw q = nI p then sBurd T ly q else nI 0) (fn T 2) (T (8 + p) + if nI p = ma then mo else nI 0))
def sTake (T : Nat → Int32) (b : Nat) : Int32 := (T (14 + 9 * b + 3) + T (14 + 9 * b + 4) - nI 1) / T (14 + 9 * b + 4)
def sPull (T : Nat → Int32) (wo : Int32) (b n : Nat) : Int32 := foldN (fun k a => a + if ¬ nI k = wo ∧ T (14 + 9 * k + 2) = T (14 + 9 * b + 2) then sTake T k else nI 0) n (nI 0)
def sHang (T nw ly : Nat → Int32) (wo ma mo : Int32) (b : Nat) (less : Int32) : Bool := !decide (sWgt T nw ly ma mo (fn T (14 + 9 * b + 2)) - less < sPull T wo b (b + 1))
def oB (T ly : Nat → Int32) (b : Option Nat) : Int32 := match b with
  | none => nI 0
  | some q => sBurd T ly q
def oAt (nw : Nat → Int32) (v : Int32) (b : Option Nat) : Bool := match b with
  | none => true
  | some q => nw q == v
def oLed (T : Nat → Int32) (b : Option Nat) : Bool := match b with
  | none => true
  | some q => T (86 + 5 * q + 4) == nI 1
/-- why one, or two, can't go over a bridge -/
def sWhy (T nw ly : Nat → Int32) (wo ma mo : Int32) (a : Nat) (b : Option Nat) (br : Nat) : Nat :=
  if (nw a = T (14 + 9 * br) ∨ nw a = T (14 + 9 * br + 1)) ∧ oAt nw (nw a) b = true then
    if sHang T nw ly wo ma mo br (if nw a = T (14 + 9 * br + 2) then sBurd T ly a + oB T ly b else nI 0) = true then
      if T (14 + 9 * br + 5) < sBurd T ly a + oB T ly b then 3
      else if T (86 + 5 * a + 4) = nI 1 ∧ oLed T b = true then 4 else 0
    else 2
  else 1
def sDone (T nw : Nat → Int32) : Bool := foldN (fun q a => a && (T (86 + 5 * q + 2) == mI || T (86 + 5 * q + 2) == nw q)) (fn T 2) true
def bI (b : Bool) : Int32 := if b = true then nI 1 else nI 0
/-! the model's functions -/
section
variable {m : Nat} {σ : ZT}
theorem q_loadOf (h : MInv m σ) (hT : TW (zAI σ (m + 1))) (p : Nat) : f_X9_loadOf m (nI p) σ = some (oI (lo (zAI σ (m + 1)) (zAI σ (m + 10)) p), σ) := by
  have hl := hT.1 3 (by decide)
  have hn := hT.2.2.2.2.1
  unfold lo
  generalize hN : fn (zAI σ (m + 1)) 3 = n at *
  unfold f_X9_loadOf
  by_cases h0 : n = 0
  · subst h0
    rw [loopC_step]
    simp (disch := first | exact h | omega | (simp only [Mi_sI, Mi_sL, Mi_sAI, Mi_sAL, Mi_sAIr, Mi_sALr]; exact h)) [f_X9_loadOf_L2, mR900, mR901, mR905, mR906, mR907, mR908, mR909, mR921, mR924, mR925, mR929, mR930, mR931, mR932, mR934, mR935, mR936, mR940, mR949, mR950, mR951, ml_at, ml_names, ml_sort, ml_trayMany, ml_trays, ml_tape, ml_text, ml_opened, ml_now, ml_lies, ml_moveKind, ml_moveOne, ml_moveTwo, ml_moveThird, ml_far, ml_come, ml_good, ml_way, ml_rounds, ml_told0, ml_endAt, ms_at, ms_names, ms_sort, ms_trayMany, ms_trays, ms_tape, ms_text, ms_opened, ms_now, ms_lies, ms_moveKind, ms_moveOne, ms_moveTwo, ms_moveThird, ms_far, ms_come, ms_good, ms_way, ms_rounds, ms_told0, ms_endAt, mgI, mgL, mpI, mpL, mpZ, mvc, bnd2_s, bind_s, rz, lI, mI_eq, nI_add, pk_mul, nlt, nle, neq, nI_mI, mI_nI, nltm, mltn, nsub, zremN, zdivN, hl, oI]
  · rw [loopC_step]
    simp (disch := first | exact h | omega | (simp only [Mi_sI, Mi_sL, Mi_sAI, Mi_sAL, Mi_sAIr, Mi_sALr]; exact h)) [f_X9_loadOf_L2, mR900, mR901, mR905, mR906, mR907, mR908, mR909, mR921, mR924, mR925, mR929, mR930, mR931, mR932, mR934, mR935, mR936, mR940, mR949, mR950, mR951, ml_at, ml_names, ml_sort, ml_trayMany, ml_trays, ml_tape, ml_text, ml_opened, ml_now, ml_lies, ml_moveKind, ml_moveOne, ml_moveTwo, ml_moveThird, ml_far, ml_come, ml_good, ml_way, ml_rounds, ml_told0, ml_endAt, ms_at, ms_names, ms_sort, ms_trayMany, ms_trays, ms_tape, ms_text, ms_opened, ms_now, ms_lies, ms_moveKind, ms_moveOne, ms_moveTwo, ms_moveThird, ms_far, ms_come, ms_good, ms_way, ms_rounds, ms_told0, ms_endAt, mgI, mgL, mpI, mpL, mpZ, mvc, bnd2_s, bind_s, rz, lI, mI_eq, nI_add, pk_mul, nlt, nle, neq, nI_mI, mI_nI, nltm, mltn, nsub, zremN, zdivN, hl]
    rw [if_pos (by omega)]
    by_cases e : zAI σ (m + 10) 0 = nI (6 + p)
    · simp [e, oI, show 0 < n by omega]
    · simp only [e, if_false, and_false]
      show Option.bind (loopC _ (nI 1, σ)) _ = _
      rw [loopC_step]
      simp (disch := first | exact h | omega | (simp only [Mi_sI, Mi_sL, Mi_sAI, Mi_sAL, Mi_sAIr, Mi_sALr]; exact h)) [f_X9_loadOf_L2, mR900, mR901, mR905, mR906, mR907, mR908, mR909, mR921, mR924, mR925, mR929, mR930, mR931, mR932, mR934, mR935, mR936, mR940, mR949, mR950, mR951, ml_at, ml_names, ml_sort, ml_trayMany, ml_trays, ml_tape, ml_text, ml_opened, ml_now, ml_lies, ml_moveKind, ml_moveOne, ml_moveTwo, ml_moveThird, ml_far, ml_come, ml_good, ml_way, ml_rounds, ml_told0, ml_endAt, ms_at, ms_names, ms_sort, ms_trayMany, ms_trays, ms_tape, ms_text, ms_opened, ms_now, ms_lies, ms_moveKind, ms_moveOne, ms_moveTwo, ms_moveThird, ms_far, ms_come, ms_good, ms_way, ms_rounds, ms_told0, ms_endAt, mgI, mgL, mpI, mpL, mpZ, mvc, bnd2_s, bind_s, rz, lI, mI_eq, nI_add, pk_mul, nlt, nle, neq, nI_mI, mI_nI, nltm, mltn, nsub, zremN, zdivN, hl]
      by_cases h1 : n = 1
      · subst h1
        simp [oI]
      · rw [if_pos (by omega)]
        by_cases e1 : zAI σ (m + 10) 1 = nI (6 + p)
        · simp [e1, oI, show 1 < n by omega]
        · simp only [e1, if_false, and_false]
          show Option.bind (loopC _ (nI 2, σ)) _ = _
          rw [loopC_step]
          simp (disch := first | exact h | omega | (simp only [Mi_sI, Mi_sL, Mi_sAI, Mi_sAL, Mi_sAIr, Mi_sALr]; exact h)) [f_X9_loadOf_L2, mR900, mR901, mR905, mR906, mR907, mR908, mR909, mR921, mR924, mR925, mR929, mR930, mR931, mR932, mR934, mR935, mR936, mR940, mR949, mR950, mR951, ml_at, ml_names, ml_sort, ml_trayMany, ml_trays, ml_tape, ml_text, ml_opened, ml_now, ml_lies, ml_moveKind, ml_moveOne, ml_moveTwo, ml_moveThird, ml_far, ml_come, ml_good, ml_way, ml_rounds, ml_told0, ml_endAt, ms_at, ms_names, ms_sort, ms_trayMany, ms_trays, ms_tape, ms_text, ms_opened, ms_now, ms_lies, ms_moveKind, ms_moveOne, ms_moveTwo, ms_moveThird, ms_far, ms_come, ms_good, ms_way, ms_rounds, ms_told0, ms_endAt, mgI, mgL, mpI, mpL, mpZ, mvc, bnd2_s, bind_s, rz, lI, mI_eq, nI_add, pk_mul, nlt, nle, neq, nI_mI, mI_nI, nltm, mltn, nsub, zremN, zdivN, hl, oI]
          rw [if_neg (by omega)]
          rfl
theorem lo_lt {T ly : Nat → Int32} {p k : Nat} (h : lo T ly p = some k) : k < fn T 3 ∧ ly k = nI (6 + p) := by
  unfold lo at h
  split at h
  · cases h; assumption
  · split at h
    · cases h; assumption
    · cases h
theorem q_burden (h : MInv m σ) (hT : TW (zAI σ (m + 1))) {p : Nat} (hp : p < 4) : f_X9_burden m (nI p) σ = some (sBurd (zAI σ (m + 1)) (zAI σ (m + 10)) p, σ) := by
  unfold f_X9_burden f_X9_ofPerson f_X9_burden_J34
  simp (disch := first | exact h | omega | (simp only [Mi_sI, Mi_sL, Mi_sAI, Mi_sAL, Mi_sAIr, Mi_sALr]; exact h)) [mR900, mR901, mR905, mR906, mR907, mR908, mR909, mR921, mR924, mR925, mR929, mR930, mR931, mR932, mR934, mR935, mR936, mR940, mR949, mR950, mR951, ml_at, ml_names, ml_sort, ml_trayMany, ml_trays, ml_tape, ml_text, ml_opened, ml_now, ml_lies, ml_moveKind, ml_moveOne, ml_moveTwo, ml_moveThird, ml_far, ml_come, ml_good, ml_way, ml_rounds, ml_told0, ml_endAt, ms_at, ms_names, ms_sort, ms_trayMany, ms_trays, ms_tape, ms_text, ms_opened, ms_now, ms_lies, ms_moveKind, ms_moveOne, ms_moveTwo, ms_moveThird, ms_far, ms_come, ms_good, ms_way, ms_rounds, ms_told0, ms_endAt, mgI, mgL, mpI, mpL, mpZ, mvc, bnd2_s, bind_s, rz, lI, mI_eq, nI_add, pk_mul, nlt, nle, neq, nI_mI, mI_nI, nltm, mltn, nsub, zremN, zdivN, q_loadOf h hT]
  unfold sBurd sLw
  cases hc : lo (zAI σ (m + 1)) (zAI σ (m + 10)) p with
  | none => simp [oI]
  | some k =>
    have hk := (lo_lt hc).1
    have hn := hT.2.2.2.2.1
    simp (disch := first | exact h | omega | (simp only [Mi_sI, Mi_sL, Mi_sAI, Mi_sAL, Mi_sAIr, Mi_sALr]; exact h)) [mR900, mR901, mR905, mR906, mR907, mR908, mR909, mR921, mR924, mR925, mR929, mR930, mR931, mR932, mR934, mR935, mR936, mR940, mR949, mR950, mR951, ml_at, ml_names, ml_sort, ml_trayMany, ml_trays, ml_tape, ml_text, ml_opened, ml_now, ml_lies, ml_moveKind, ml_moveOne, ml_moveTwo, ml_moveThird, ml_far, ml_come, ml_good, ml_way, ml_rounds, ml_told0, ml_endAt, ms_at, ms_names, ms_sort, ms_trayMany, ms_trays, ms_tape, ms_text, ms_opened, ms_now, ms_lies, ms_moveKind, ms_moveOne, ms_moveTwo, ms_moveThird, ms_far, ms_come, ms_good, ms_way, ms_rounds, ms_told0, ms_endAt, mgI, mgL, mpI, mpL, mpZ, mvc, bnd2_s, bind_s, rz, lI, mI_eq, nI_add, pk_mul, nlt, nle, neq, nI_mI, mI_nI, nltm, mltn, nsub, zremN, zdivN, oI]
theorem q_takesOf (h : MInv m σ) (hT : TW (zAI σ (m + 1))) {b : Nat} (hb : b < fn (zAI σ (m + 1)) 1) : f_X9_takesOf m (nI b) σ = some (sTake (zAI σ (m + 1)) b, σ) := by
  have h8 := hT.2.2.1
  have h9 := hT.2.2.2.2.2.1 b hb
  have hne : ¬ zAI σ (m + 1) (14 + 9 * b + 4) = nI 0 := by
    rw [h9.1 4 (by decide), neq (by omega) (by decide)]
    omega
  unfold f_X9_takesOf f_X9_ofBridge zidiv sTake
  simp (disch := first | exact h | omega | (simp only [Mi_sI, Mi_sL, Mi_sAI, Mi_sAL, Mi_sAIr, Mi_sALr]; exact h)) [mR900, mR901, mR905, mR906, mR907, mR908, mR909, mR921, mR924, mR925, mR929, mR930, mR931, mR932, mR934, mR935, mR936, mR940, mR949, mR950, mR951, ml_at, ml_names, ml_sort, ml_trayMany, ml_trays, ml_tape, ml_text, ml_opened, ml_now, ml_lies, ml_moveKind, ml_moveOne, ml_moveTwo, ml_moveThird, ml_far, ml_come, ml_good, ml_way, ml_rounds, ml_told0, ml_endAt, ms_at, ms_names, ms_sort, ms_trayMany, ms_trays, ms_tape, ms_text, ms_opened, ms_now, ms_lies, ms_moveKind, ms_moveOne, ms_moveTwo, ms_moveThird, ms_far, ms_come, ms_good, ms_way, ms_rounds, ms_told0, ms_endAt, mgI, mgL, mpI, mpL, mpZ, mvc, bnd2_s, bind_s, rz, lI, mI_eq, nI_add, pk_mul, nlt, nle, neq, nI_mI, mI_nI, nltm, mltn, nsub, zremN, zdivN, hne]
theorem q_weightAt (h : MInv m σ) (hT : TW (zAI σ (m + 1))) {p : Nat} (hp : p < 6) : f_X9_weightAt m (nI p) σ = some (sWgt (zAI σ (m + 1)) (zAI σ (m + 9)) (zAI σ (m + 10)) (zI σ 928 m) (zI σ 927 m) p, σ) := by
  have h2 := hT.1 2 (by decide)
  have h3 := hT.1 3 (by decide)
  have n2 := hT.2.2.2.1
  have n3 := hT.2.2.2.2.1
  have e1 : ∀ a0 : Int32, loopC (fun s : (Int32 × Int32 × ZT) => f_X9_weightAt_L29 m (nI p) s.1 s.2.1 s.2.2) (a0, nI 0, σ) = some (foldN (fun q a => a + if zAI σ (m + 9) q = nI p then sBurd (zAI σ (m + 1)) (zAI σ (m + 10)) q else nI 0) (fn (zAI σ (m + 1)) 2) a0, σ) := by
    intro a0
    refine loop_go (fun k => (foldN (fun q a => a + if zAI σ (m + 9) q = nI p then sBurd (zAI σ (m + 1)) (zAI σ (m + 10)) q else nI 0) k a0, nI k, σ)) (fn (zAI σ (m + 1)) 2) _ (fun k hk => ?_) ?_
    · unfold f_X9_weightAt_L29 f_X9_weightAt_J59_29
      simp (disch := first | exact h | omega | (simp only [Mi_sI, Mi_sL, Mi_sAI, Mi_sAL, Mi_sAIr, Mi_sALr]; exact h)) [mR900, mR901, mR905, mR906, mR907, mR908, mR909, mR921, mR924, mR925, mR929, mR930, mR931, mR932, mR934, mR935, mR936, mR940, mR949, mR950, mR951, ml_at, ml_names, ml_sort, ml_trayMany, ml_trays, ml_tape, ml_text, ml_opened, ml_now, ml_lies, ml_moveKind, ml_moveOne, ml_moveTwo, ml_moveThird, ml_far, ml_come, ml_good, ml_way, ml_rounds, ml_told0, ml_endAt, ms_at, ms_names, ms_sort, ms_trayMany, ms_trays, ms_tape, ms_text, ms_opened, ms_now, ms_lies, ms_moveKind, ms_moveOne, ms_moveTwo, ms_moveThird, ms_far, ms_come, ms_good, ms_way, ms_rounds, ms_told0, ms_endAt, mgI, mgL, mpI, mpL, mpZ, mvc, bnd2_s, bind_s, rz, lI, mI_eq, nI_add, pk_mul, nlt, nle, neq, nI_mI, mI_nI, nltm, mltn, nsub, zremN, zdivN, h2, q_burden h hT, hk, foldN]
      split <;> rfl
    · unfold f_X9_weightAt_L29
      simp (disch := first | exact h | omega | (simp only [Mi_sI, Mi_sL, Mi_sAI, Mi_sAL, Mi_sAIr, Mi_sALr]; exact h)) [mR900, mR901, mR905, mR906, mR907, mR908, mR909, mR921, mR924, mR925, mR929, mR930, mR931, mR932, mR934, mR935, mR936, mR940, mR949, mR950, mR951, ml_at, ml_names, ml_sort, ml_trayMany, ml_trays, ml_tape, ml_text, ml_opened, ml_now, ml_lies, ml_moveKind, ml_moveOne, ml_moveTwo, ml_moveThird, ml_far, ml_come, ml_good, ml_way, ml_rounds, ml_told0, ml_endAt, ms_at, ms_names, ms_sort, ms_trayMany, ms_trays, ms_tape, ms_text, ms_opened, ms_now, ms_lies, ms_moveKind, ms_moveOne, ms_moveTwo, ms_moveThird, ms_far, ms_come, ms_good, ms_way, ms_rounds, ms_told0, ms_endAt, mgI, mgL, mpI, mpL, mpZ, mvc, bnd2_s, bind_s, rz, lI, mI_eq, nI_add, pk_mul, nlt, nle, neq, nI_mI, mI_nI, nltm, mltn, nsub, zremN, zdivN, h2]
  have e2 : ∀ a0 : Int32, loopC (fun s : (Int32 × Int32 × ZT) => f_X9_weightAt_L69 m (nI p) s.1 s.2.1 s.2.2) (a0, nI 0, σ) = some (foldN (fun l a => a + if zAI σ (m + 10) l = nI p then zAI σ (m + 1) (106 + 2 * l) else nI 0) (fn (zAI σ (m + 1)) 3) a0, σ) := by
    intro a0
    refine loop_go (fun k => (foldN (fun l a => a + if zAI σ (m + 10) l = nI p then zAI σ (m + 1) (106 + 2 * l) else nI 0) k a0, nI k, σ)) (fn (zAI σ (m + 1)) 3) _ (fun k hk => ?_) ?_
    · unfold f_X9_weightAt_L69 f_X9_weightAt_J105_69
      simp (disch := first | exact h | omega | (simp only [Mi_sI, Mi_sL, Mi_sAI, Mi_sAL, Mi_sAIr, Mi_sALr]; exact h)) [mR900, mR901, mR905, mR906, mR907, mR908, mR909, mR921, mR924, mR925, mR929, mR930, mR931, mR932, mR934, mR935, mR936, mR940, mR949, mR950, mR951, ml_at, ml_names, ml_sort, ml_trayMany, ml_trays, ml_tape, ml_text, ml_opened, ml_now, ml_lies, ml_moveKind, ml_moveOne, ml_moveTwo, ml_moveThird, ml_far, ml_come, ml_good, ml_way, ml_rounds, ml_told0, ml_endAt, ms_at, ms_names, ms_sort, ms_trayMany, ms_trays, ms_tape, ms_text, ms_opened, ms_now, ms_lies, ms_moveKind, ms_moveOne, ms_moveTwo, ms_moveThird, ms_far, ms_come, ms_good, ms_way, ms_rounds, ms_told0, ms_endAt, mgI, mgL, mpI, mpL, mpZ, mvc, bnd2_s, bind_s, rz, lI, mI_eq, nI_add, pk_mul, nlt, nle, neq, nI_mI, mI_nI, nltm, mltn, nsub, zremN, zdivN, h3, hk, foldN]
      split <;> rfl
    · unfold f_X9_weightAt_L69
      simp (disch := first | exact h | omega | (simp only [Mi_sI, Mi_sL, Mi_sAI, Mi_sAL, Mi_sAIr, Mi_sALr]; exact h)) [mR900, mR901, mR905, mR906, mR907, mR908, mR909, mR921, mR924, mR925, mR929, mR930, mR931, mR932, mR934, mR935, mR936, mR940, mR949, mR950, mR951, ml_at, ml_names, ml_sort, ml_trayMany, ml_trays, ml_tape, ml_text, ml_opened, ml_now, ml_lies, ml_moveKind, ml_moveOne, ml_moveTwo, ml_moveThird, ml_far, ml_come, ml_good, ml_way, ml_rounds, ml_told0, ml_endAt, ms_at, ms_names, ms_sort, ms_trayMany, ms_trays, ms_tape, ms_text, ms_opened, ms_now, ms_lies, ms_moveKind, ms_moveOne, ms_moveTwo, ms_moveThird, ms_far, ms_come, ms_good, ms_way, ms_rounds, ms_told0, ms_endAt, mgI, mgL, mpI, mpL, mpZ, mvc, bnd2_s, bind_s, rz, lI, mI_eq, nI_add, pk_mul, nlt, nle, neq, nI_mI, mI_nI, nltm, mltn, nsub, zremN, zdivN, h3]
  unfold f_X9_weightAt f_X9_weightAt_J25 sWgt
  simp (disch := first | exact h | omega | (simp only [Mi_sI, Mi_sL, Mi_sAI, Mi_sAL, Mi_sAIr, Mi_sALr]; exact h)) [mR900, mR901, mR905, mR906, mR907, mR908, mR909, mR921, mR924, mR925, mR929, mR930, mR931, mR932, mR934, mR935, mR936, mR940, mR949, mR950, mR951, ml_at, ml_names, ml_sort, ml_trayMany, ml_trays, ml_tape, ml_text, ml_opened, ml_now, ml_lies, ml_moveKind, ml_moveOne, ml_moveTwo, ml_moveThird, ml_far, ml_come, ml_good, ml_way, ml_rounds, ml_told0, ml_endAt, ms_at, ms_names, ms_sort, ms_trayMany, ms_trays, ms_tape, ms_text, ms_opened, ms_now, ms_lies, ms_moveKind, ms_moveOne, ms_moveTwo, ms_moveThird, ms_far, ms_come, ms_good, ms_way, ms_rounds, ms_told0, ms_endAt, mgI, mgL, mpI, mpL, mpZ, mvc, bnd2_s, bind_s, rz, lI, mI_eq, nI_add, pk_mul, nlt, nle, neq, nI_mI, mI_nI, nltm, mltn, nsub, zremN, zdivN, e1, e2]
  split <;> rfl
end
