set_option maxRecDepth 100000
section
variable {m : Nat} {σ : ZT}
theorem q_whyNot89 (h : MInv m σ) (hT : TW (zAI σ (m + 1))) {a br : Nat} {b : Option Nat} (ha : a < fn (zAI σ (m + 1)) 2) (hb : ∀ q, b = some q → q < fn (zAI σ (m + 1)) 2) (hbr : br < fn (zAI σ (m + 1)) 1) (w less : Int32) : f_X9_whyNot_J89 m (nI a) (oI b) (nI br) w less (nI br) m σ = some (nI (if sHang (zAI σ (m + 1)) (zAI σ (m + 9)) (zAI σ (m + 10)) (zI σ 926 m) (zI σ 928 m) (zI σ 927 m) br less = true then (if zAI σ (m + 1) (14 + 9 * br + 5) < w then 3 else if zAI σ (m + 1) (86 + 5 * a + 4) = nI 1 ∧ oLed (zAI σ (m + 1)) b = true then 4 else 0) else 2), σ) := by
  have h8 := hT.2.2.1
  have h4 := hT.2.2.2.1
  unfold f_X9_whyNot_J89 f_X9_whyNot_J135 f_X9_whyNot_J139 f_X9_whyNot_J140 f_X9_ofBridge f_X9_ofPerson
  rw [q_hangsBy h hT hbr]
  cases hh : sHang (zAI σ (m + 1)) (zAI σ (m + 9)) (zAI σ (m + 10)) (zI σ 926 m) (zI σ 928 m) (zI σ 927 m) br less with
  | false => simp (disch := first | exact h | omega | (simp only [Mi_sI, Mi_sL, Mi_sAI, Mi_sAL, Mi_sAIr, Mi_sALr]; exact h)) [mR900, mR901, mR905, mR906, mR907, mR908, mR909, mR921, mR924, mR925, mR929, mR930, mR931, mR932, mR934, mR935, mR936, mR940, mR949, mR950, mR951, ml_at, ml_names, ml_sort, ml_trayMany, ml_trays, ml_tape, ml_text, ml_opened, ml_now, ml_lies, ml_moveKind, ml_moveOne, ml_moveTwo, ml_moveThird, ml_far, ml_come, ml_good, ml_way, ml_rounds, ml_told0, ml_endAt, ms_at, ms_names, ms_sort, ms_trayMany, ms_trays, ms_tape, ms_text, ms_opened, ms_now, ms_lies, ms_moveKind, ms_moveOne, ms_moveTwo, ms_moveThird, ms_far, ms_come, ms_good, ms_way, ms_rounds, ms_told0, ms_endAt, mgI, mgL, mpI, mpL, mpZ, mvc, bnd2_s, bind_s, rz, lI, mI_eq, nI_add, pk_mul, nlt, nle, neq, nI_mI, mI_nI, nltm, mltn, nsub, zremN, zdivN, bI]
  | true =>
    simp (disch := first | exact h | omega | (simp only [Mi_sI, Mi_sL, Mi_sAI, Mi_sAL, Mi_sAIr, Mi_sALr]; exact h)) [mR900, mR901, mR905, mR906, mR907, mR908, mR909, mR921, mR924, mR925, mR929, mR930, mR931, mR932, mR934, mR935, mR936, mR940, mR949, mR950, mR951, ml_at, ml_names, ml_sort, ml_trayMany, ml_trays, ml_tape, ml_text, ml_opened, ml_now, ml_lies, ml_moveKind, ml_moveOne, ml_moveTwo, ml_moveThird, ml_far, ml_come, ml_good, ml_way, ml_rounds, ml_told0, ml_endAt, ms_at, ms_names, ms_sort, ms_trayMany, ms_trays, ms_tape, ms_text, ms_opened, ms_now, ms_lies, ms_moveKind, ms_moveOne, ms_moveTwo, ms_moveThird, ms_far, ms_come, ms_good, ms_way, ms_rounds, ms_told0, ms_endAt, mgI, mgL, mpI, mpL, mpZ, mvc, bnd2_s, bind_s, rz, lI, mI_eq, nI_add, pk_mul, nlt, nle, neq, nI_mI, mI_nI, nltm, mltn, nsub, zremN, zdivN, bI]
    by_cases e1 : zAI σ (m + 1) (14 + 9 * br + 5) < w
    · simp only [e1, if_true]
    · simp only [e1, if_false]
      by_cases e2 : zAI σ (m + 1) (86 + 5 * a + 4) = nI 1
      · simp only [e2, if_true, true_and]
        cases b with
        | none => simp [oI, oLed]
        | some q =>
          have hq := hb q rfl
          by_cases e3 : zAI σ (m + 1) (86 + 5 * q + 4) = nI 1
          · simp (disch := first | exact h | omega | (simp only [Mi_sI, Mi_sL, Mi_sAI, Mi_sAL, Mi_sAIr, Mi_sALr]; exact h)) [mR900, mR901, mR905, mR906, mR907, mR908, mR909, mR921, mR924, mR925, mR929, mR930, mR931, mR932, mR934, mR935, mR936, mR940, mR949, mR950, mR951, ml_at, ml_names, ml_sort, ml_trayMany, ml_trays, ml_tape, ml_text, ml_opened, ml_now, ml_lies, ml_moveKind, ml_moveOne, ml_moveTwo, ml_moveThird, ml_far, ml_come, ml_good, ml_way, ml_rounds, ml_told0, ml_endAt, ms_at, ms_names, ms_sort, ms_trayMany, ms_trays, ms_tape, ms_text, ms_opened, ms_now, ms_lies, ms_moveKind, ms_moveOne, ms_moveTwo, ms_moveThird, ms_far, ms_come, ms_good, ms_way, ms_rounds, ms_told0, ms_endAt, mgI, mgL, mpI, mpL, mpZ, mvc, bnd2_s, bind_s, rz, lI, mI_eq, nI_add, pk_mul, nlt, nle, neq, nI_mI, mI_nI, nltm, mltn, nsub, zremN, zdivN, oI, oLed, e3]
          · simp (disch := first | exact h | omega | (simp only [Mi_sI, Mi_sL, Mi_sAI, Mi_sAL, Mi_sAIr, Mi_sALr]; exact h)) [mR900, mR901, mR905, mR906, mR907, mR908, mR909, mR921, mR924, mR925, mR929, mR930, mR931, mR932, mR934, mR935, mR936, mR940, mR949, mR950, mR951, ml_at, ml_names, ml_sort, ml_trayMany, ml_trays, ml_tape, ml_text, ml_opened, ml_now, ml_lies, ml_moveKind, ml_moveOne, ml_moveTwo, ml_moveThird, ml_far, ml_come, ml_good, ml_way, ml_rounds, ml_told0, ml_endAt, ms_at, ms_names, ms_sort, ms_trayMany, ms_trays, ms_tape, ms_text, ms_opened, ms_now, ms_lies, ms_moveKind, ms_moveOne, ms_moveTwo, ms_moveThird, ms_far, ms_come, ms_good, ms_way, ms_rounds, ms_told0, ms_endAt, mgI, mgL, mpI, mpL, mpZ, mvc, bnd2_s, bind_s, rz, lI, mI_eq, nI_add, pk_mul, nlt, nle, neq, nI_mI, mI_nI, nltm, mltn, nsub, zremN, zdivN, oI, oLed, e3]
      · simp only [e2, if_false, false_and]
theorem q_whyNot67 (h : MInv m σ) (hT : TW (zAI σ (m + 1))) {a br : Nat} {b : Option Nat} (ha : a < fn (zAI σ (m + 1)) 2) (hb : ∀ q, b = some q → q < fn (zAI σ (m + 1)) 2) (hbr : br < fn (zAI σ (m + 1)) 1) (v : Int32) : f_X9_whyNot_J48 m (nI a) (oI b) (nI br) v σ = some (nI (if sHang (zAI σ (m + 1)) (zAI σ (m + 9)) (zAI σ (m + 10)) (zI σ 926 m) (zI σ 928 m) (zI σ 927 m) br (if v = zAI σ (m + 1) (14 + 9 * br + 2) then sBurd (zAI σ (m + 1)) (zAI σ (m + 10)) a + oB (zAI σ (m + 1)) (zAI σ (m + 10)) b else nI 0) = true then (if zAI σ (m + 1) (14 + 9 * br + 5) < sBurd (zAI σ (m + 1)) (zAI σ (m + 10)) a + oB (zAI σ (m + 1)) (zAI σ (m + 10)) b then 3 else if zAI σ (m + 1) (86 + 5 * a + 4) = nI 1 ∧ oLed (zAI σ (m + 1)) b = true then 4 else 0) else 2), σ) := by
  have h8 := hT.2.2.1
  have h4 := hT.2.2.2.1
  have key : ∀ x y : Int32, f_X9_whyNot_J67 m (nI a) (oI b) (nI br) v y x σ = some (nI (if sHang (zAI σ (m + 1)) (zAI σ (m + 9)) (zAI σ (m + 10)) (zI σ 926 m) (zI σ 928 m) (zI σ 927 m) br (if v = zAI σ (m + 1) (14 + 9 * br + 2) then x + y else nI 0) = true then (if zAI σ (m + 1) (14 + 9 * br + 5) < x + y then 3 else if zAI σ (m + 1) (86 + 5 * a + 4) = nI 1 ∧ oLed (zAI σ (m + 1)) b = true then 4 else 0) else 2), σ) := by
    intro x y
    unfold f_X9_whyNot_J67 f_X9_ofBridge
    simp (disch := first | exact h | omega | (simp only [Mi_sI, Mi_sL, Mi_sAI, Mi_sAL, Mi_sAIr, Mi_sALr]; exact h)) [mR900, mR901, mR905, mR906, mR907, mR908, mR909, mR921, mR924, mR925, mR929, mR930, mR931, mR932, mR934, mR935, mR936, mR940, mR949, mR950, mR951, ml_at, ml_names, ml_sort, ml_trayMany, ml_trays, ml_tape, ml_text, ml_opened, ml_now, ml_lies, ml_moveKind, ml_moveOne, ml_moveTwo, ml_moveThird, ml_far, ml_come, ml_good, ml_way, ml_rounds, ml_told0, ml_endAt, ms_at, ms_names, ms_sort, ms_trayMany, ms_trays, ms_tape, ms_text, ms_opened, ms_now, ms_lies, ms_moveKind, ms_moveOne, ms_moveTwo, ms_moveThird, ms_far, ms_come, ms_good, ms_way, ms_rounds, ms_told0, ms_endAt, mgI, mgL, mpI, mpL, mpZ, mvc, bnd2_s, bind_s, rz, lI, mI_eq, nI_add, pk_mul, nlt, nle, neq, nI_mI, mI_nI, nltm, mltn, nsub, zremN, zdivN, q_whyNot89 h hT ha hb hbr]
    by_cases e : v = zAI σ (m + 1) (14 + 9 * br + 2)
    · simp only [e, if_true]
    · simp only [e, if_false]
  unfold f_X9_whyNot_J48
  cases b with
  | none =>
    simp (disch := first | exact h | omega | (simp only [Mi_sI, Mi_sL, Mi_sAI, Mi_sAL, Mi_sAIr, Mi_sALr]; exact h)) only [mR900, mR901, mR905, mR906, mR907, mR908, mR909, mR921, mR924, mR925, mR929, mR930, mR931, mR932, mR934, mR935, mR936, mR940, mR949, mR950, mR951, ml_at, ml_names, ml_sort, ml_trayMany, ml_trays, ml_tape, ml_text, ml_opened, ml_now, ml_lies, ml_moveKind, ml_moveOne, ml_moveTwo, ml_moveThird, ml_far, ml_come, ml_good, ml_way, ml_rounds, ml_told0, ml_endAt, ms_at, ms_names, ms_sort, ms_trayMany, ms_trays, ms_tape, ms_text, ms_opened, ms_now, ms_lies, ms_moveKind, ms_moveOne, ms_moveTwo, ms_moveThird, ms_far, ms_come, ms_good, ms_way, ms_rounds, ms_told0, ms_endAt, mgI, mgL, mpI, mpL, mpZ, mvc, bnd2_s, bind_s, rz, lI, mI_eq, nI_add, pk_mul, nlt, nle, neq, nI_mI, mI_nI, nltm, mltn, nsub, zremN, zdivN, q_burden h hT, oI, if_true, if_false]
    exact key _ _
  | some q =>
    have hq := hb q rfl
    simp (disch := first | exact h | omega | (simp only [Mi_sI, Mi_sL, Mi_sAI, Mi_sAL, Mi_sAIr, Mi_sALr]; exact h)) only [mR900, mR901, mR905, mR906, mR907, mR908, mR909, mR921, mR924, mR925, mR929, mR930, mR931, mR932, mR934, mR935, mR936, mR940, mR949, mR950, mR951, ml_at, ml_names, ml_sort, ml_trayMany, ml_trays, ml_tape, ml_text, ml_opened, ml_now, ml_lies, ml_moveKind, ml_moveOne, ml_moveTwo, ml_moveThird, ml_far, ml_come, ml_good, ml_way, ml_rounds, ml_told0, ml_endAt, ms_at, ms_names, ms_sort, ms_trayMany, ms_trays, ms_tape, ms_text, ms_opened, ms_now, ms_lies, ms_moveKind, ms_moveOne, ms_moveTwo, ms_moveThird, ms_far, ms_come, ms_good, ms_way, ms_rounds, ms_told0, ms_endAt, mgI, mgL, mpI, mpL, mpZ, mvc, bnd2_s, bind_s, rz, lI, mI_eq, nI_add, pk_mul, nlt, nle, neq, nI_mI, mI_nI, nltm, mltn, nsub, zremN, zdivN, q_burden h hT, oI, if_true, if_false]
    exact key _ _
theorem q_whyNot (h : MInv m σ) (hT : TW (zAI σ (m + 1))) {a br : Nat} {b : Option Nat} (ha : a < fn (zAI σ (m + 1)) 2) (hb : ∀ q, b = some q → q < fn (zAI σ (m + 1)) 2) (hbr : br < fn (zAI σ (m + 1)) 1) : f_X9_whyNot m (nI a) (oI b) (nI br) σ = some (nI (sWhy (zAI σ (m + 1)) (zAI σ (m + 9)) (zAI σ (m + 10)) (zI σ 926 m) (zI σ 928 m) (zI σ 927 m) a b br), σ) := by
  have h8 := hT.2.2.1
  have h4 := hT.2.2.2.1
  have key : f_X9_whyNot_J30 m (nI a) (oI b) (nI br) (zAI σ (m + 9) a) σ = if oAt (zAI σ (m + 9)) (zAI σ (m + 9) a) b = true then f_X9_whyNot_J48 m (nI a) (oI b) (nI br) (zAI σ (m + 9) a) σ else some (nI 1, σ) := by
    unfold f_X9_whyNot_J30 f_X9_whyNot_J46
    cases b with
    | none => simp (disch := first | exact h | omega | (simp only [Mi_sI, Mi_sL, Mi_sAI, Mi_sAL, Mi_sAIr, Mi_sALr]; exact h)) [mR900, mR901, mR905, mR906, mR907, mR908, mR909, mR921, mR924, mR925, mR929, mR930, mR931, mR932, mR934, mR935, mR936, mR940, mR949, mR950, mR951, ml_at, ml_names, ml_sort, ml_trayMany, ml_trays, ml_tape, ml_text, ml_opened, ml_now, ml_lies, ml_moveKind, ml_moveOne, ml_moveTwo, ml_moveThird, ml_far, ml_come, ml_good, ml_way, ml_rounds, ml_told0, ml_endAt, ms_at, ms_names, ms_sort, ms_trayMany, ms_trays, ms_tape, ms_text, ms_opened, ms_now, ms_lies, ms_moveKind, ms_moveOne, ms_moveTwo, ms_moveThird, ms_far, ms_come, ms_good, ms_way, ms_rounds, ms_told0, ms_endAt, mgI, mgL, mpI, mpL, mpZ, mvc, bnd2_s, bind_s, rz, lI, mI_eq, nI_add, pk_mul, nlt, nle, neq, nI_mI, mI_nI, nltm, mltn, nsub, zremN, zdivN, oI, oAt]
    | some q =>
      have hq := hb q rfl
      simp (disch := first | exact h | omega | (simp only [Mi_sI, Mi_sL, Mi_sAI, Mi_sAL, Mi_sAIr, Mi_sALr]; exact h)) [mR900, mR901, mR905, mR906, mR907, mR908, mR909, mR921, mR924, mR925, mR929, mR930, mR931, mR932, mR934, mR935, mR936, mR940, mR949, mR950, mR951, ml_at, ml_names, ml_sort, ml_trayMany, ml_trays, ml_tape, ml_text, ml_opened, ml_now, ml_lies, ml_moveKind, ml_moveOne, ml_moveTwo, ml_moveThird, ml_far, ml_come, ml_good, ml_way, ml_rounds, ml_told0, ml_endAt, ms_at, ms_names, ms_sort, ms_trayMany, ms_trays, ms_tape, ms_text, ms_opened, ms_now, ms_lies, ms_moveKind, ms_moveOne, ms_moveTwo, ms_moveThird, ms_far, ms_come, ms_good, ms_way, ms_rounds, ms_told0, ms_endAt, mgI, mgL, mpI, mpL, mpZ, mvc, bnd2_s, bind_s, rz, lI, mI_eq, nI_add, pk_mul, nlt, nle, neq, nI_mI, mI_nI, nltm, mltn, nsub, zremN, zdivN, oI, oAt]
  unfold f_X9_whyNot f_X9_whyNot_J46 f_X9_ofBridge sWhy
  simp (disch := first | exact h | omega | (simp only [Mi_sI, Mi_sL, Mi_sAI, Mi_sAL, Mi_sAIr, Mi_sALr]; exact h)) only [mR900, mR901, mR905, mR906, mR907, mR908, mR909, mR921, mR924, mR925, mR929, mR930, mR931, mR932, mR934, mR935, mR936, mR940, mR949, mR950, mR951, ml_at, ml_names, ml_sort, ml_trayMany, ml_trays, ml_tape, ml_text, ml_opened, ml_now, ml_lies, ml_moveKind, ml_moveOne, ml_moveTwo, ml_moveThird, ml_far, ml_come, ml_good, ml_way, ml_rounds, ml_told0, ml_endAt, ms_at, ms_names, ms_sort, ms_trayMany, ms_trays, ms_tape, ms_text, ms_opened, ms_now, ms_lies, ms_moveKind, ms_moveOne, ms_moveTwo, ms_moveThird, ms_far, ms_come, ms_good, ms_way, ms_rounds, ms_told0, ms_endAt, mgI, mgL, mpI, mpL, mpZ, mvc, bnd2_s, bind_s, rz, lI, mI_eq, nI_add, pk_mul, nlt, nle, neq, nI_mI, mI_nI, nltm, mltn, nsub, zremN, zdivN, key, q_whyNot67 h hT ha hb hbr]
  by_cases e1 : zAI σ (m + 9) a = zAI σ (m + 1) (14 + 9 * br)
  · simp [e1]
    split <;> rfl
  · by_cases e2 : zAI σ (m + 9) a = zAI σ (m + 1) (14 + 9 * br + 1)
    · simp [e2]
      split
      · split <;> simp_all
      · simp_all
    · simp [e1, e2]
theorem q_isDone (h : MInv m σ) (hT : TW (zAI σ (m + 1))) : f_X9_isDone m σ = some (bI (sDone (zAI σ (m + 1)) (zAI σ (m + 9))), σ) := by
  have h2 := hT.1 2 (by decide)
  have n2 := hT.2.2.2.1
  have e1 : loopC (fun s : (Int32 × Int32 × ZT) => f_X9_isDone_L4 m s.1 s.2.1 s.2.2) (nI 1, nI 0, σ) = some (bI (sDone (zAI σ (m + 1)) (zAI σ (m + 9))), σ) := by
    refine loop_go (fun k => (bI (foldN (fun q a => a && (zAI σ (m + 1) (86 + 5 * q + 2) == mI || zAI σ (m + 1) (86 + 5 * q + 2) == zAI σ (m + 9) q)) k true), nI k, σ)) (fn (zAI σ (m + 1)) 2) _ (fun k hk => ?_) ?_
    · unfold f_X9_isDone_L4 f_X9_isDone_J47_4 f_X9_isDone_J43_4 f_X9_isDone_J48_4 f_X9_ofPerson
      simp (disch := first | exact h | omega | (simp only [Mi_sI, Mi_sL, Mi_sAI, Mi_sAL, Mi_sAIr, Mi_sALr]; exact h)) [mR900, mR901, mR905, mR906, mR907, mR908, mR909, mR921, mR924, mR925, mR929, mR930, mR931, mR932, mR934, mR935, mR936, mR940, mR949, mR950, mR951, ml_at, ml_names, ml_sort, ml_trayMany, ml_trays, ml_tape, ml_text, ml_opened, ml_now, ml_lies, ml_moveKind, ml_moveOne, ml_moveTwo, ml_moveThird, ml_far, ml_come, ml_good, ml_way, ml_rounds, ml_told0, ml_endAt, ms_at, ms_names, ms_sort, ms_trayMany, ms_trays, ms_tape, ms_text, ms_opened, ms_now, ms_lies, ms_moveKind, ms_moveOne, ms_moveTwo, ms_moveThird, ms_far, ms_come, ms_good, ms_way, ms_rounds, ms_told0, ms_endAt, mgI, mgL, mpI, mpL, mpZ, mvc, bnd2_s, bind_s, rz, lI, mI_eq, nI_add, pk_mul, nlt, nle, neq, nI_mI, mI_nI, nltm, mltn, nsub, zremN, zdivN, h2, hk]
      rw [foldN]
      generalize foldN (fun q a => a && (zAI σ (m + 1) (86 + 5 * q + 2) == mI || zAI σ (m + 1) (86 + 5 * q + 2) == zAI σ (m + 9) q)) k true = bb
      unfold bI
      cases bb
      · simp [neq]
      · simp (disch := first | exact h | omega | (simp only [Mi_sI, Mi_sL, Mi_sAI, Mi_sAL, Mi_sAIr, Mi_sALr]; exact h)) [lI, mI_eq, nI_add, pk_mul, nlt, nle, neq, nI_mI, mI_nI, nltm, mltn, nsub, zremN, zdivN]
        by_cases e1 : zAI σ (m + 1) (86 + 5 * k + 2) = mI
        · simp [e1]
        · by_cases e2 : zAI σ (m + 1) (86 + 5 * k + 2) = zAI σ (m + 9) k
          · simp [e1, e2]
          · simp [e1, e2]
    · unfold f_X9_isDone_L4
      simp (disch := first | exact h | omega | (simp only [Mi_sI, Mi_sL, Mi_sAI, Mi_sAL, Mi_sAIr, Mi_sALr]; exact h)) [mR900, mR901, mR905, mR906, mR907, mR908, mR909, mR921, mR924, mR925, mR929, mR930, mR931, mR932, mR934, mR935, mR936, mR940, mR949, mR950, mR951, ml_at, ml_names, ml_sort, ml_trayMany, ml_trays, ml_tape, ml_text, ml_opened, ml_now, ml_lies, ml_moveKind, ml_moveOne, ml_moveTwo, ml_moveThird, ml_far, ml_come, ml_good, ml_way, ml_rounds, ml_told0, ml_endAt, ms_at, ms_names, ms_sort, ms_trayMany, ms_trays, ms_tape, ms_text, ms_opened, ms_now, ms_lies, ms_moveKind, ms_moveOne, ms_moveTwo, ms_moveThird, ms_far, ms_come, ms_good, ms_way, ms_rounds, ms_told0, ms_endAt, mgI, mgL, mpI, mpL, mpZ, mvc, bnd2_s, bind_s, rz, lI, mI_eq, nI_add, pk_mul, nlt, nle, neq, nI_mI, mI_nI, nltm, mltn, nsub, zremN, zdivN, h2]
      rfl
  unfold f_X9_isDone
  simp (disch := first | exact h | omega | (simp only [Mi_sI, Mi_sL, Mi_sAI, Mi_sAL, Mi_sAIr, Mi_sALr]; exact h)) [mR900, mR901, mR905, mR906, mR907, mR908, mR909, mR921, mR924, mR925, mR929, mR930, mR931, mR932, mR934, mR935, mR936, mR940, mR949, mR950, mR951, ml_at, ml_names, ml_sort, ml_trayMany, ml_trays, ml_tape, ml_text, ml_opened, ml_now, ml_lies, ml_moveKind, ml_moveOne, ml_moveTwo, ml_moveThird, ml_far, ml_come, ml_good, ml_way, ml_rounds, ml_told0, ml_endAt, ms_at, ms_names, ms_sort, ms_trayMany, ms_trays, ms_tape, ms_text, ms_opened, ms_now, ms_lies, ms_moveKind, ms_moveOne, ms_moveTwo, ms_moveThird, ms_far, ms_come, ms_good, ms_way, ms_rounds, ms_told0, ms_endAt, mgI, mgL, mpI, mpL, mpZ, mvc, bnd2_s, bind_s, rz, lI, mI_eq, nI_add, pk_mul, nlt, nle, neq, nI_mI, mI_nI, nltm, mltn, nsub, zremN, zdivN, e1]
  unfold bI
  split <;> simp [lI]
theorem q_crosses (h : MInv m σ) (hT : TW (zAI σ (m + 1))) {a br : Nat} (ha : a < fn (zAI σ (m + 1)) 2) (hbr : br < fn (zAI σ (m + 1)) 1) : f_X9_crosses m (nI a) (nI br) σ = some (sAIr σ (m + 9) (up (zAI σ (m + 9)) a (sOth (zAI σ (m + 1)) br (zAI σ (m + 9) a)))) := by
  have h8 := hT.2.2.1
  have h4 := hT.2.2.2.1
  unfold f_X9_crosses f_X9_crosses_J35 f_X9_ofBridge sOth
  simp (disch := first | exact h | omega | (simp only [Mi_sI, Mi_sL, Mi_sAI, Mi_sAL, Mi_sAIr, Mi_sALr]; exact h)) [mR900, mR901, mR905, mR906, mR907, mR908, mR909, mR921, mR924, mR925, mR929, mR930, mR931, mR932, mR934, mR935, mR936, mR940, mR949, mR950, mR951, ml_at, ml_names, ml_sort, ml_trayMany, ml_trays, ml_tape, ml_text, ml_opened, ml_now, ml_lies, ml_moveKind, ml_moveOne, ml_moveTwo, ml_moveThird, ml_far, ml_come, ml_good, ml_way, ml_rounds, ml_told0, ml_endAt, ms_at, ms_names, ms_sort, ms_trayMany, ms_trays, ms_tape, ms_text, ms_opened, ms_now, ms_lies, ms_moveKind, ms_moveOne, ms_moveTwo, ms_moveThird, ms_far, ms_come, ms_good, ms_way, ms_rounds, ms_told0, ms_endAt, mgI, mgL, mpI, mpL, mpZ, mvc, bnd2_s, bind_s, rz, lI, mI_eq, nI_add, pk_mul, nlt, nle, neq, nI_mI, mI_nI, nltm, mltn, nsub, zremN, zdivN]
  split <;> simp [sAI_r]
theorem q_goesOver (h : MInv m σ) (hT : TW (zAI σ (m + 1))) {a br : Nat} {b : Option Nat} (ha : a < fn (zAI σ (m + 1)) 2) (hb : ∀ q, b = some q → q < fn (zAI σ (m + 1)) 2 ∧ q ≠ a) (hbr : br < fn (zAI σ (m + 1)) 1) :
    f_X9_goesOver m (nI a) (oI b) (nI br) σ = if nI br = zI σ 926 m ∨ 0 < sWhy (zAI σ (m + 1)) (zAI σ (m + 9)) (zAI σ (m + 10)) (zI σ 926 m) (zI σ 928 m) (zI σ 927 m) a b br then some (nI 0, σ) else some (nI 1, sAIr σ (m + 9) (sGo (zAI σ (m + 1)) (zAI σ (m + 9)) a b br)) := by
  have hw := q_whyNot h hT ha (fun q hq => (hb q hq).1) hbr
  have hwl : sWhy (zAI σ (m + 1)) (zAI σ (m + 9)) (zAI σ (m + 10)) (zI σ 926 m) (zI σ 928 m) (zI σ 927 m) a b br < 5 := by
    unfold sWhy
    repeat' split
    all_goals omega
  have hc := q_crosses h hT ha hbr
  unfold f_X9_goesOver f_X9_goesOver_J18 f_X9_goesOver_J37
  generalize sWhy (zAI σ (m + 1)) (zAI σ (m + 9)) (zAI σ (m + 10)) (zI σ 926 m) (zI σ 928 m) (zI σ 927 m) a b br = w at *
  by_cases e : nI br = zI σ 926 m
  · simp (disch := first | exact h | omega | (simp only [Mi_sI, Mi_sL, Mi_sAI, Mi_sAL, Mi_sAIr, Mi_sALr]; exact h)) [mR900, mR901, mR905, mR906, mR907, mR908, mR909, mR921, mR924, mR925, mR929, mR930, mR931, mR932, mR934, mR935, mR936, mR940, mR949, mR950, mR951, ml_at, ml_names, ml_sort, ml_trayMany, ml_trays, ml_tape, ml_text, ml_opened, ml_now, ml_lies, ml_moveKind, ml_moveOne, ml_moveTwo, ml_moveThird, ml_far, ml_come, ml_good, ml_way, ml_rounds, ml_told0, ml_endAt, ms_at, ms_names, ms_sort, ms_trayMany, ms_trays, ms_tape, ms_text, ms_opened, ms_now, ms_lies, ms_moveKind, ms_moveOne, ms_moveTwo, ms_moveThird, ms_far, ms_come, ms_good, ms_way, ms_rounds, ms_told0, ms_endAt, mgI, mgL, mpI, mpL, mpZ, mvc, bnd2_s, bind_s, rz, e, lI]
  · simp (disch := first | exact h | omega | (simp only [Mi_sI, Mi_sL, Mi_sAI, Mi_sAL, Mi_sAIr, Mi_sALr]; exact h)) [mR900, mR901, mR905, mR906, mR907, mR908, mR909, mR921, mR924, mR925, mR929, mR930, mR931, mR932, mR934, mR935, mR936, mR940, mR949, mR950, mR951, ml_at, ml_names, ml_sort, ml_trayMany, ml_trays, ml_tape, ml_text, ml_opened, ml_now, ml_lies, ml_moveKind, ml_moveOne, ml_moveTwo, ml_moveThird, ml_far, ml_come, ml_good, ml_way, ml_rounds, ml_told0, ml_endAt, ms_at, ms_names, ms_sort, ms_trayMany, ms_trays, ms_tape, ms_text, ms_opened, ms_now, ms_lies, ms_moveKind, ms_moveOne, ms_moveTwo, ms_moveThird, ms_far, ms_come, ms_good, ms_way, ms_rounds, ms_told0, ms_endAt, mgI, mgL, mpI, mpL, mpZ, mvc, bnd2_s, bind_s, rz, lI, mI_eq, nI_add, pk_mul, nlt, nle, neq, nI_mI, mI_nI, nltm, mltn, nsub, zremN, zdivN, e, hw, hc]
    by_cases e0 : 0 < w
    · simp [e0]
    · simp only [e0, if_false]
      cases b with
      | none => simp [oI, mI_eq, sGo]
      | some q =>
        have h1 : MInv m (sAIr σ (m + 9) (up (zAI σ (m + 9)) a (sOth (zAI σ (m + 1)) br (zAI σ (m + 9) a)))) := h
        have h2 := hb q rfl
        have h4 := hT.2.2.2.1
        have e9 : zAI (sAIr σ (m + 9) (up (zAI σ (m + 9)) a (sOth (zAI σ (m + 1)) br (zAI σ (m + 9) a)))) (m + 1) = zAI σ (m + 1) := zAIr_ne _ (by omega)
        have hc2 := q_crosses (a := q) (br := br) h1 (by rw [e9]; exact hT) (by rw [e9]; exact h2.1) (by rw [e9]; exact hbr)
        rw [e9, zAIr_at, sAIr_sAIr] at hc2
        have e8 : up (zAI σ (m + 9)) a (sOth (zAI σ (m + 1)) br (zAI σ (m + 9) a)) q = zAI σ (m + 9) q := by
          unfold up; rw [if_neg h2.2]
        rw [e8] at hc2
        simp (disch := first | exact h | omega | (simp only [Mi_sI, Mi_sL, Mi_sAI, Mi_sAL, Mi_sAIr, Mi_sALr]; exact h)) [mR900, mR901, mR905, mR906, mR907, mR908, mR909, mR921, mR924, mR925, mR929, mR930, mR931, mR932, mR934, mR935, mR936, mR940, mR949, mR950, mR951, ml_at, ml_names, ml_sort, ml_trayMany, ml_trays, ml_tape, ml_text, ml_opened, ml_now, ml_lies, ml_moveKind, ml_moveOne, ml_moveTwo, ml_moveThird, ml_far, ml_come, ml_good, ml_way, ml_rounds, ml_told0, ml_endAt, ms_at, ms_names, ms_sort, ms_trayMany, ms_trays, ms_tape, ms_text, ms_opened, ms_now, ms_lies, ms_moveKind, ms_moveOne, ms_moveTwo, ms_moveThird, ms_far, ms_come, ms_good, ms_way, ms_rounds, ms_told0, ms_endAt, mgI, mgL, mpI, mpL, mpZ, mvc, bnd2_s, bind_s, rz, lI, mI_eq, nI_add, pk_mul, nlt, nle, neq, nI_mI, mI_nI, nltm, mltn, nsub, zremN, zdivN, oI, hc2, sGo]
theorem q_lifts (h : MInv m σ) (hT : TW (zAI σ (m + 1))) {a l : Nat} (ha : a < fn (zAI σ (m + 1)) 2) (hl : l < fn (zAI σ (m + 1)) 3) :
    f_X9_lifts m (nI a) (nI l) σ = if zAI σ (m + 10) l = zAI σ (m + 9) a ∧ lo (zAI σ (m + 1)) (zAI σ (m + 10)) a = none ∧ ¬ zAI σ (m + 1) (86 + 5 * a + 3) < zAI σ (m + 1) (106 + 2 * l) then some (nI 1, sAIr σ (m + 10) (up (zAI σ (m + 10)) l (nI (6 + a)))) else some (nI 0, σ) := by
  have h4 := hT.2.2.2.1
  have h5 := hT.2.2.2.2.1
  unfold f_X9_lifts f_X9_lifts_J44 f_X9_ofPerson
  simp (disch := first | exact h | omega | (simp only [Mi_sI, Mi_sL, Mi_sAI, Mi_sAL, Mi_sAIr, Mi_sALr]; exact h)) [mR900, mR901, mR905, mR906, mR907, mR908, mR909, mR921, mR924, mR925, mR929, mR930, mR931, mR932, mR934, mR935, mR936, mR940, mR949, mR950, mR951, ml_at, ml_names, ml_sort, ml_trayMany, ml_trays, ml_tape, ml_text, ml_opened, ml_now, ml_lies, ml_moveKind, ml_moveOne, ml_moveTwo, ml_moveThird, ml_far, ml_come, ml_good, ml_way, ml_rounds, ml_told0, ml_endAt, ms_at, ms_names, ms_sort, ms_trayMany, ms_trays, ms_tape, ms_text, ms_opened, ms_now, ms_lies, ms_moveKind, ms_moveOne, ms_moveTwo, ms_moveThird, ms_far, ms_come, ms_good, ms_way, ms_rounds, ms_told0, ms_endAt, mgI, mgL, mpI, mpL, mpZ, mvc, bnd2_s, bind_s, rz, lI, mI_eq, nI_add, pk_mul, nlt, nle, neq, nI_mI, mI_nI, nltm, mltn, nsub, zremN, zdivN, q_loadOf h hT]
  by_cases e1 : zAI σ (m + 10) l = zAI σ (m + 9) a
  · cases e2 : lo (zAI σ (m + 1)) (zAI σ (m + 10)) a with
    | none =>
      by_cases e3 : zAI σ (m + 1) (86 + 5 * a + 3) < zAI σ (m + 1) (106 + 2 * l)
      · simp (disch := first | exact h | omega | (simp only [Mi_sI, Mi_sL, Mi_sAI, Mi_sAL, Mi_sAIr, Mi_sALr]; exact h)) [mR900, mR901, mR905, mR906, mR907, mR908, mR909, mR921, mR924, mR925, mR929, mR930, mR931, mR932, mR934, mR935, mR936, mR940, mR949, mR950, mR951, ml_at, ml_names, ml_sort, ml_trayMany, ml_trays, ml_tape, ml_text, ml_opened, ml_now, ml_lies, ml_moveKind, ml_moveOne, ml_moveTwo, ml_moveThird, ml_far, ml_come, ml_good, ml_way, ml_rounds, ml_told0, ml_endAt, ms_at, ms_names, ms_sort, ms_trayMany, ms_trays, ms_tape, ms_text, ms_opened, ms_now, ms_lies, ms_moveKind, ms_moveOne, ms_moveTwo, ms_moveThird, ms_far, ms_come, ms_good, ms_way, ms_rounds, ms_told0, ms_endAt, mgI, mgL, mpI, mpL, mpZ, mvc, bnd2_s, bind_s, rz, lI, mI_eq, nI_add, pk_mul, nlt, nle, neq, nI_mI, mI_nI, nltm, mltn, nsub, zremN, zdivN, e1, oI, e3]
      · have e4 := Int32.not_lt.mp e3
        simp (disch := first | exact h | omega | (simp only [Mi_sI, Mi_sL, Mi_sAI, Mi_sAL, Mi_sAIr, Mi_sALr]; exact h)) [mR900, mR901, mR905, mR906, mR907, mR908, mR909, mR921, mR924, mR925, mR929, mR930, mR931, mR932, mR934, mR935, mR936, mR940, mR949, mR950, mR951, ml_at, ml_names, ml_sort, ml_trayMany, ml_trays, ml_tape, ml_text, ml_opened, ml_now, ml_lies, ml_moveKind, ml_moveOne, ml_moveTwo, ml_moveThird, ml_far, ml_come, ml_good, ml_way, ml_rounds, ml_told0, ml_endAt, ms_at, ms_names, ms_sort, ms_trayMany, ms_trays, ms_tape, ms_text, ms_opened, ms_now, ms_lies, ms_moveKind, ms_moveOne, ms_moveTwo, ms_moveThird, ms_far, ms_come, ms_good, ms_way, ms_rounds, ms_told0, ms_endAt, mgI, mgL, mpI, mpL, mpZ, mvc, bnd2_s, bind_s, rz, lI, mI_eq, nI_add, pk_mul, nlt, nle, neq, nI_mI, mI_nI, nltm, mltn, nsub, zremN, zdivN, e1, oI, e3, e4, sAI_r]
    | some k =>
      have hk := (lo_lt e2).1
      simp (disch := first | exact h | omega | (simp only [Mi_sI, Mi_sL, Mi_sAI, Mi_sAL, Mi_sAIr, Mi_sALr]; exact h)) [mR900, mR901, mR905, mR906, mR907, mR908, mR909, mR921, mR924, mR925, mR929, mR930, mR931, mR932, mR934, mR935, mR936, mR940, mR949, mR950, mR951, ml_at, ml_names, ml_sort, ml_trayMany, ml_trays, ml_tape, ml_text, ml_opened, ml_now, ml_lies, ml_moveKind, ml_moveOne, ml_moveTwo, ml_moveThird, ml_far, ml_come, ml_good, ml_way, ml_rounds, ml_told0, ml_endAt, ms_at, ms_names, ms_sort, ms_trayMany, ms_trays, ms_tape, ms_text, ms_opened, ms_now, ms_lies, ms_moveKind, ms_moveOne, ms_moveTwo, ms_moveThird, ms_far, ms_come, ms_good, ms_way, ms_rounds, ms_told0, ms_endAt, mgI, mgL, mpI, mpL, mpZ, mvc, bnd2_s, bind_s, rz, lI, mI_eq, nI_add, pk_mul, nlt, nle, neq, nI_mI, mI_nI, nltm, mltn, nsub, zremN, zdivN, e1, oI]
  · simp [e1]
theorem q_drops (h : MInv m σ) (hT : TW (zAI σ (m + 1))) {a : Nat} (ha : a < fn (zAI σ (m + 1)) 2) :
    f_X9_drops m (nI a) σ = match lo (zAI σ (m + 1)) (zAI σ (m + 10)) a with
      | none => some (nI 0, σ)
      | some l => some (nI 1, sAIr σ (m + 10) (up (zAI σ (m + 10)) l (zAI σ (m + 9) a))) := by
  have h4 := hT.2.2.2.1
  have h5 := hT.2.2.2.2.1
  unfold f_X9_drops
  simp (disch := first | exact h | omega | (simp only [Mi_sI, Mi_sL, Mi_sAI, Mi_sAL, Mi_sAIr, Mi_sALr]; exact h)) [mR900, mR901, mR905, mR906, mR907, mR908, mR909, mR921, mR924, mR925, mR929, mR930, mR931, mR932, mR934, mR935, mR936, mR940, mR949, mR950, mR951, ml_at, ml_names, ml_sort, ml_trayMany, ml_trays, ml_tape, ml_text, ml_opened, ml_now, ml_lies, ml_moveKind, ml_moveOne, ml_moveTwo, ml_moveThird, ml_far, ml_come, ml_good, ml_way, ml_rounds, ml_told0, ml_endAt, ms_at, ms_names, ms_sort, ms_trayMany, ms_trays, ms_tape, ms_text, ms_opened, ms_now, ms_lies, ms_moveKind, ms_moveOne, ms_moveTwo, ms_moveThird, ms_far, ms_come, ms_good, ms_way, ms_rounds, ms_told0, ms_endAt, mgI, mgL, mpI, mpL, mpZ, mvc, bnd2_s, bind_s, rz, lI, mI_eq, nI_add, pk_mul, nlt, nle, neq, nI_mI, mI_nI, nltm, mltn, nsub, zremN, zdivN, q_loadOf h hT]
  cases e2 : lo (zAI σ (m + 1)) (zAI σ (m + 10)) a with
  | none => simp [oI]
  | some k =>
    have hk := (lo_lt e2).1
    simp (disch := first | exact h | omega | (simp only [Mi_sI, Mi_sL, Mi_sAI, Mi_sAL, Mi_sAIr, Mi_sALr]; exact h)) [mR900, mR901, mR905, mR906, mR907, mR908, mR909, mR921, mR924, mR925, mR929, mR930, mR931, mR932, mR934, mR935, mR936, mR940, mR949, mR950, mR951, ml_at, ml_names, ml_sort, ml_trayMany, ml_trays, ml_tape, ml_text, ml_opened, ml_now, ml_lies, ml_moveKind, ml_moveOne, ml_moveTwo, ml_moveThird, ml_far, ml_come, ml_good, ml_way, ml_rounds, ml_told0, ml_endAt, ms_at, ms_names, ms_sort, ms_trayMany, ms_trays, ms_tape, ms_text, ms_opened, ms_now, ms_lies, ms_moveKind, ms_moveOne, ms_moveTwo, ms_moveThird, ms_far, ms_come, ms_good, ms_way, ms_rounds, ms_told0, ms_endAt, mgI, mgL, mpI, mpL, mpZ, mvc, bnd2_s, bind_s, rz, lI, mI_eq, nI_add, pk_mul, nlt, nle, neq, nI_mI, mI_nI, nltm, mltn, nsub, zremN, zdivN, oI, sAI_r]
end
