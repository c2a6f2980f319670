set_option maxRecDepth 100000
/-! ===== whether a number is one of so many ===== -/
def ok (i : Int32) (n : Nat) : Bool := !decide (i < nI 0) && decide (i < nI n)
theorem ok_of {i : Int32} {n : Nat} (hn : n < 2 ^ 31) (h : ok i n = true) : ∃ k, k < n ∧ i = nI k := by
  unfold ok at h
  simp only [Bool.and_eq_true, Bool.not_eq_true', decide_eq_false_iff_not, decide_eq_true_eq] at h
  rcases pk_ix i hn with h1 | h1 | h1
  · exact absurd h1 h.1
  · exact absurd h.2 (Int32.not_lt.mpr h1)
  · exact h1
theorem ok_nI {k n : Nat} (hn : n < 2 ^ 31) (hk : k < n) : ok (nI k) n = true := by
  unfold ok
  have h1 : ¬ nI k < nI 0 := nI_pos (by omega)
  have h2 : nI k < nI n := nI_lt hk hn
  simp [h1, h2]
theorem cmp_lt (a b : Int64) : (lg_cmp a b < nI 0) = (a < b) := by
  unfold lg_cmp
  by_cases h1 : a > b
  · rw [if_pos h1]
    have : ¬ a < b := by simp only [gt_iff_lt, Int64.lt_iff_toInt_lt] at h1 ⊢; omega
    simp [this]; decide
  · rw [if_neg h1]
    by_cases h2 : a = b
    · subst h2; simp; decide
    · rw [if_neg h2]
      have : a < b := by
        simp only [gt_iff_lt, Int64.lt_iff_toInt_lt, ← Int64.toInt_inj] at h1 h2 ⊢
        omega
      simp [this]; decide
theorem cmp_gt (a b : Int64) : (nI 0 < lg_cmp a b) = (b < a) := by
  unfold lg_cmp
  by_cases h1 : a > b
  · rw [if_pos h1]
    have h1' : b < a := h1
    simp [h1']; decide
  · rw [if_neg h1]
    have h1' : ¬ b < a := h1
    by_cases h2 : a = b
    · subst h2; simp; decide
    · rw [if_neg h2]
      simp [h1']; decide
theorem p_isIn (a b c : Int64) (σ : ZT) : f_X0_isIn a b c σ = some (bI (!decide (a < b) && !decide (c < a)), σ) := by
  unfold f_X0_isIn f_X0_isIn_J17 f_X0_isIn_J18
  simp only [lI, cmp_lt, cmp_gt]
  by_cases h1 : a < b
  · simp [h1, rz, bI, lI]
  · by_cases h2 : c < a
    · simp [h1, h2, rz, bI, lI]
    · simp [h1, h2, rz, bI, lI]
theorem isIn_ok (i : Int32) {n : Nat} (hn : n < 2 ^ 30) : (!decide (i.toInt64 < (0 : Int64)) && !decide ((nI n - nI 1).toInt64 < i.toInt64)) = ok i n := by
  unfold ok
  have e1 : (i.toInt64 < (0 : Int64)) ↔ i < nI 0 := by
    rw [Int64.lt_iff_toInt_lt, Int32.lt_iff_toInt_lt, Int32.toInt_toInt64]
    rfl
  have e2 : ((nI n - nI 1).toInt64 < i.toInt64) ↔ ¬ i < nI n := by
    rw [Int64.lt_iff_toInt_lt, Int32.lt_iff_toInt_lt, Int32.toInt_toInt64, Int32.toInt_toInt64, pk_sub_toInt hn (by decide), nI_toInt (by omega)]
    omega
  by_cases h1 : i < nI 0
  · have h1' : i.toInt64 < 0 := e1.mpr h1
    simp [h1, h1']
  · have h1' : ¬ i.toInt64 < 0 := fun h => h1 (e1.mp h)
    by_cases h2 : i < nI n
    · have h2' : ¬ (nI n - nI 1).toInt64 < i.toInt64 := fun h => e2.mp h h2
      simp only [h1, h1', h2, h2', decide_true, decide_false, Bool.not_false, Bool.and_self]
    · have h2' : (nI n - nI 1).toInt64 < i.toInt64 := e2.mpr h2
      simp only [h1, h1', h2, h2', decide_true, decide_false, Bool.not_false, Bool.not_true, Bool.and_false]
section
variable {x m t : Nat} {σ : ZT} {T : Nat → Int32} {B P O : Nat → Nat}
theorem p_town (h : HC x σ t T B P O) : f_X0_town_2 x σ = some (t, σ) := by
  have hc : CInv x σ := h.1
  have q1 : gR 5 500 (x + 10) σ = some t := gR_k (xk_10 hc) h.2.1
  unfold f_X0_town_2
  simp (disch := first | exact hc | omega) only [xr_10_0, xr_400_9, bind_s, q1]
theorem ti0 (g : TR σ t T B P O) : gI 6 600 t σ = some (T 0) := ti g (k := 0) (by decide)
theorem rz_bI (b : Bool) : rz (bI b) = some (bI b) := by cases b <;> rfl
theorem p_isPlace (h : HC x σ t T B P O) (hT : TW T) (i : Int32) : f_X0_isPlace x i σ = some (bI (ok i (fn T 0)), σ) := by
  have hc : CInv x σ := h.1
  have e := hT.1 0 (by decide)
  have b := hT.2.1
  unfold f_X0_isPlace
  simp only [xv_0 hc, p_town h, bnd2_s, bind_s, ti0 h.2.2.1, e, lI, p_isIn]
  rw [isIn_ok i (by omega), rz_bI]
  rfl
theorem q_isPlace (h : MInv m σ) (hT : TW (zAI σ (m + 1))) (i : Int32) : f_X9_isPlace m i σ = some (bI (ok i (fn (zAI σ (m + 1)) 0)), σ) := by
  have e := hT.1 0 (by decide)
  unfold f_X9_isPlace f_X9_isPlace_J18 f_X9_isPlace_J19 ok
  by_cases h1 : i < nI 0
  · simp (disch := first | exact h | omega | (simp only [Mi_sI, Mi_sL, Mi_sAI, Mi_sAL, Mi_sAIr, Mi_sALr]; exact h)) [mR900, mR901, mR905, mR906, mR907, mR908, mR909, mR921, mR924, mR925, mR929, mR930, mR931, mR932, mR934, mR935, mR936, mR940, mR949, mR950, mR951, ml_at, ml_names, ml_sort, ml_trayMany, ml_trays, ml_tape, ml_text, ml_opened, ml_now, ml_lies, ml_moveKind, ml_moveOne, ml_moveTwo, ml_moveThird, ml_far, ml_come, ml_good, ml_way, ml_rounds, ml_told0, ml_endAt, ms_at, ms_names, ms_sort, ms_trayMany, ms_trays, ms_tape, ms_text, ms_opened, ms_now, ms_lies, ms_moveKind, ms_moveOne, ms_moveTwo, ms_moveThird, ms_far, ms_come, ms_good, ms_way, ms_rounds, ms_told0, ms_endAt, mgI, mgL, mpI, mpL, mpZ, mvc, bnd2_s, bind_s, rz, lI, h1, bI]
  · by_cases h2 : i < nI (fn (zAI σ (m + 1)) 0)
    · simp (disch := first | exact h | omega | (simp only [Mi_sI, Mi_sL, Mi_sAI, Mi_sAL, Mi_sAIr, Mi_sALr]; exact h)) [mR900, mR901, mR905, mR906, mR907, mR908, mR909, mR921, mR924, mR925, mR929, mR930, mR931, mR932, mR934, mR935, mR936, mR940, mR949, mR950, mR951, ml_at, ml_names, ml_sort, ml_trayMany, ml_trays, ml_tape, ml_text, ml_opened, ml_now, ml_lies, ml_moveKind, ml_moveOne, ml_moveTwo, ml_moveThird, ml_far, ml_come, ml_good, ml_way, ml_rounds, ml_told0, ml_endAt, ms_at, ms_names, ms_sort, ms_trayMany, ms_trays, ms_tape, ms_text, ms_opened, ms_now, ms_lies, ms_moveKind, ms_moveOne, ms_moveTwo, ms_moveThird, ms_far, ms_come, ms_good, ms_way, ms_rounds, ms_told0, ms_endAt, mgI, mgL, mpI, mpL, mpZ, mvc, bnd2_s, bind_s, rz, lI, h1, h2, e, bI]
    · simp (disch := first | exact h | omega | (simp only [Mi_sI, Mi_sL, Mi_sAI, Mi_sAL, Mi_sAIr, Mi_sALr]; exact h)) [mR900, mR901, mR905, mR906, mR907, mR908, mR909, mR921, mR924, mR925, mR929, mR930, mR931, mR932, mR934, mR935, mR936, mR940, mR949, mR950, mR951, ml_at, ml_names, ml_sort, ml_trayMany, ml_trays, ml_tape, ml_text, ml_opened, ml_now, ml_lies, ml_moveKind, ml_moveOne, ml_moveTwo, ml_moveThird, ml_far, ml_come, ml_good, ml_way, ml_rounds, ml_told0, ml_endAt, ms_at, ms_names, ms_sort, ms_trayMany, ms_trays, ms_tape, ms_text, ms_opened, ms_now, ms_lies, ms_moveKind, ms_moveOne, ms_moveTwo, ms_moveThird, ms_far, ms_come, ms_good, ms_way, ms_rounds, ms_told0, ms_endAt, mgI, mgL, mpI, mpL, mpZ, mvc, bnd2_s, bind_s, rz, lI, h1, h2, e, bI]
theorem p_isBridge (h : HC x σ t T B P O) (hT : TW T) (i : Int32) : f_X0_isBridge x i σ = some (bI (ok i (fn T 1)), σ) := by
  have hc : CInv x σ := h.1
  have e := hT.1 1 (by decide)
  have b := hT.2.2.1
  unfold f_X0_isBridge
  simp only [xv_0 hc, p_town h, bnd2_s, bind_s, ti1 h.2.2.1, e, lI, p_isIn]
  rw [isIn_ok i (by omega), rz_bI]
  rfl
theorem q_isBridge (h : MInv m σ) (hT : TW (zAI σ (m + 1))) (i : Int32) : f_X9_isBridge m i σ = some (bI (ok i (fn (zAI σ (m + 1)) 1)), σ) := by
  have e := hT.1 1 (by decide)
  unfold f_X9_isBridge f_X9_isBridge_J18 f_X9_isBridge_J19 ok
  by_cases h1 : i < nI 0
  · simp (disch := first | exact h | omega | (simp only [Mi_sI, Mi_sL, Mi_sAI, Mi_sAL, Mi_sAIr, Mi_sALr]; exact h)) [mR900, mR901, mR905, mR906, mR907, mR908, mR909, mR921, mR924, mR925, mR929, mR930, mR931, mR932, mR934, mR935, mR936, mR940, mR949, mR950, mR951, ml_at, ml_names, ml_sort, ml_trayMany, ml_trays, ml_tape, ml_text, ml_opened, ml_now, ml_lies, ml_moveKind, ml_moveOne, ml_moveTwo, ml_moveThird, ml_far, ml_come, ml_good, ml_way, ml_rounds, ml_told0, ml_endAt, ms_at, ms_names, ms_sort, ms_trayMany, ms_trays, ms_tape, ms_text, ms_opened, ms_now, ms_lies, ms_moveKind, ms_moveOne, ms_moveTwo, ms_moveThird, ms_far, ms_come, ms_good, ms_way, ms_rounds, ms_told0, ms_endAt, mgI, mgL, mpI, mpL, mpZ, mvc, bnd2_s, bind_s, rz, lI, h1, bI]
  · by_cases h2 : i < nI (fn (zAI σ (m + 1)) 1)
    · simp (disch := first | exact h | omega | (simp only [Mi_sI, Mi_sL, Mi_sAI, Mi_sAL, Mi_sAIr, Mi_sALr]; exact h)) [mR900, mR901, mR905, mR906, mR907, mR908, mR909, mR921, mR924, mR925, mR929, mR930, mR931, mR932, mR934, mR935, mR936, mR940, mR949, mR950, mR951, ml_at, ml_names, ml_sort, ml_trayMany, ml_trays, ml_tape, ml_text, ml_opened, ml_now, ml_lies, ml_moveKind, ml_moveOne, ml_moveTwo, ml_moveThird, ml_far, ml_come, ml_good, ml_way, ml_rounds, ml_told0, ml_endAt, ms_at, ms_names, ms_sort, ms_trayMany, ms_trays, ms_tape, ms_text, ms_opened, ms_now, ms_lies, ms_moveKind, ms_moveOne, ms_moveTwo, ms_moveThird, ms_far, ms_come, ms_good, ms_way, ms_rounds, ms_told0, ms_endAt, mgI, mgL, mpI, mpL, mpZ, mvc, bnd2_s, bind_s, rz, lI, h1, h2, e, bI]
    · simp (disch := first | exact h | omega | (simp only [Mi_sI, Mi_sL, Mi_sAI, Mi_sAL, Mi_sAIr, Mi_sALr]; exact h)) [mR900, mR901, mR905, mR906, mR907, mR908, mR909, mR921, mR924, mR925, mR929, mR930, mR931, mR932, mR934, mR935, mR936, mR940, mR949, mR950, mR951, ml_at, ml_names, ml_sort, ml_trayMany, ml_trays, ml_tape, ml_text, ml_opened, ml_now, ml_lies, ml_moveKind, ml_moveOne, ml_moveTwo, ml_moveThird, ml_far, ml_come, ml_good, ml_way, ml_rounds, ml_told0, ml_endAt, ms_at, ms_names, ms_sort, ms_trayMany, ms_trays, ms_tape, ms_text, ms_opened, ms_now, ms_lies, ms_moveKind, ms_moveOne, ms_moveTwo, ms_moveThird, ms_far, ms_come, ms_good, ms_way, ms_rounds, ms_told0, ms_endAt, mgI, mgL, mpI, mpL, mpZ, mvc, bnd2_s, bind_s, rz, lI, h1, h2, e, bI]
theorem p_isPerson (h : HC x σ t T B P O) (hT : TW T) (i : Int32) : f_X0_isPerson x i σ = some (bI (ok i (fn T 2)), σ) := by
  have hc : CInv x σ := h.1
  have e := hT.1 2 (by decide)
  have b := hT.2.2.2.1
  unfold f_X0_isPerson
  simp only [xv_0 hc, p_town h, bnd2_s, bind_s, ti2 h.2.2.1, e, lI, p_isIn]
  rw [isIn_ok i (by omega), rz_bI]
  rfl
theorem q_isPerson (h : MInv m σ) (hT : TW (zAI σ (m + 1))) (i : Int32) : f_X9_isPerson m i σ = some (bI (ok i (fn (zAI σ (m + 1)) 2)), σ) := by
  have e := hT.1 2 (by decide)
  unfold f_X9_isPerson f_X9_isPerson_J18 f_X9_isPerson_J19 ok
  by_cases h1 : i < nI 0
  · simp (disch := first | exact h | omega | (simp only [Mi_sI, Mi_sL, Mi_sAI, Mi_sAL, Mi_sAIr, Mi_sALr]; exact h)) [mR900, mR901, mR905, mR906, mR907, mR908, mR909, mR921, mR924, mR925, mR929, mR930, mR931, mR932, mR934, mR935, mR936, mR940, mR949, mR950, mR951, ml_at, ml_names, ml_sort, ml_trayMany, ml_trays, ml_tape, ml_text, ml_opened, ml_now, ml_lies, ml_moveKind, ml_moveOne, ml_moveTwo, ml_moveThird, ml_far, ml_come, ml_good, ml_way, ml_rounds, ml_told0, ml_endAt, ms_at, ms_names, ms_sort, ms_trayMany, ms_trays, ms_tape, ms_text, ms_opened, ms_now, ms_lies, ms_moveKind, ms_moveOne, ms_moveTwo, ms_moveThird, ms_far, ms_come, ms_good, ms_way, ms_rounds, ms_told0, ms_endAt, mgI, mgL, mpI, mpL, mpZ, mvc, bnd2_s, bind_s, rz, lI, h1, bI]
  · by_cases h2 : i < nI (fn (zAI σ (m + 1)) 2)
    · simp (disch := first | exact h | omega | (simp only [Mi_sI, Mi_sL, Mi_sAI, Mi_sAL, Mi_sAIr, Mi_sALr]; exact h)) [mR900, mR901, mR905, mR906, mR907, mR908, mR909, mR921, mR924, mR925, mR929, mR930, mR931, mR932, mR934, mR935, mR936, mR940, mR949, mR950, mR951, ml_at, ml_names, ml_sort, ml_trayMany, ml_trays, ml_tape, ml_text, ml_opened, ml_now, ml_lies, ml_moveKind, ml_moveOne, ml_moveTwo, ml_moveThird, ml_far, ml_come, ml_good, ml_way, ml_rounds, ml_told0, ml_endAt, ms_at, ms_names, ms_sort, ms_trayMany, ms_trays, ms_tape, ms_text, ms_opened, ms_now, ms_lies, ms_moveKind, ms_moveOne, ms_moveTwo, ms_moveThird, ms_far, ms_come, ms_good, ms_way, ms_rounds, ms_told0, ms_endAt, mgI, mgL, mpI, mpL, mpZ, mvc, bnd2_s, bind_s, rz, lI, h1, h2, e, bI]
    · simp (disch := first | exact h | omega | (simp only [Mi_sI, Mi_sL, Mi_sAI, Mi_sAL, Mi_sAIr, Mi_sALr]; exact h)) [mR900, mR901, mR905, mR906, mR907, mR908, mR909, mR921, mR924, mR925, mR929, mR930, mR931, mR932, mR934, mR935, mR936, mR940, mR949, mR950, mR951, ml_at, ml_names, ml_sort, ml_trayMany, ml_trays, ml_tape, ml_text, ml_opened, ml_now, ml_lies, ml_moveKind, ml_moveOne, ml_moveTwo, ml_moveThird, ml_far, ml_come, ml_good, ml_way, ml_rounds, ml_told0, ml_endAt, ms_at, ms_names, ms_sort, ms_trayMany, ms_trays, ms_tape, ms_text, ms_opened, ms_now, ms_lies, ms_moveKind, ms_moveOne, ms_moveTwo, ms_moveThird, ms_far, ms_come, ms_good, ms_way, ms_rounds, ms_told0, ms_endAt, mgI, mgL, mpI, mpL, mpZ, mvc, bnd2_s, bind_s, rz, lI, h1, h2, e, bI]
theorem p_isLoad (h : HC x σ t T B P O) (hT : TW T) (i : Int32) : f_X0_isLoad x i σ = some (bI (ok i (fn T 3)), σ) := by
  have hc : CInv x σ := h.1
  have e := hT.1 3 (by decide)
  have b := hT.2.2.2.2.1
  unfold f_X0_isLoad
  simp only [xv_0 hc, p_town h, bnd2_s, bind_s, ti3 h.2.2.1, e, lI, p_isIn]
  rw [isIn_ok i (by omega), rz_bI]
  rfl
theorem q_isLoad (h : MInv m σ) (hT : TW (zAI σ (m + 1))) (i : Int32) : f_X9_isLoad m i σ = some (bI (ok i (fn (zAI σ (m + 1)) 3)), σ) := by
  have e := hT.1 3 (by decide)
  unfold f_X9_isLoad f_X9_isLoad_J18 f_X9_isLoad_J19 ok
  by_cases h1 : i < nI 0
  · simp (disch := first | exact h | omega | (simp only [Mi_sI, Mi_sL, Mi_sAI, Mi_sAL, Mi_sAIr, Mi_sALr]; exact h)) [mR900, mR901, mR905, mR906, mR907, mR908, mR909, mR921, mR924, mR925, mR929, mR930, mR931, mR932, mR934, mR935, mR936, mR940, mR949, mR950, mR951, ml_at, ml_names, ml_sort, ml_trayMany, ml_trays, ml_tape, ml_text, ml_opened, ml_now, ml_lies, ml_moveKind, ml_moveOne, ml_moveTwo, ml_moveThird, ml_far, ml_come, ml_good, ml_way, ml_rounds, ml_told0, ml_endAt, ms_at, ms_names, ms_sort, ms_trayMany, ms_trays, ms_tape, ms_text, ms_opened, ms_now, ms_lies, ms_moveKind, ms_moveOne, ms_moveTwo, ms_moveThird, ms_far, ms_come, ms_good, ms_way, ms_rounds, ms_told0, ms_endAt, mgI, mgL, mpI, mpL, mpZ, mvc, bnd2_s, bind_s, rz, lI, h1, bI]
  · by_cases h2 : i < nI (fn (zAI σ (m + 1)) 3)
    · simp (disch := first | exact h | omega | (simp only [Mi_sI, Mi_sL, Mi_sAI, Mi_sAL, Mi_sAIr, Mi_sALr]; exact h)) [mR900, mR901, mR905, mR906, mR907, mR908, mR909, mR921, mR924, mR925, mR929, mR930, mR931, mR932, mR934, mR935, mR936, mR940, mR949, mR950, mR951, ml_at, ml_names, ml_sort, ml_trayMany, ml_trays, ml_tape, ml_text, ml_opened, ml_now, ml_lies, ml_moveKind, ml_moveOne, ml_moveTwo, ml_moveThird, ml_far, ml_come, ml_good, ml_way, ml_rounds, ml_told0, ml_endAt, ms_at, ms_names, ms_sort, ms_trayMany, ms_trays, ms_tape, ms_text, ms_opened, ms_now, ms_lies, ms_moveKind, ms_moveOne, ms_moveTwo, ms_moveThird, ms_far, ms_come, ms_good, ms_way, ms_rounds, ms_told0, ms_endAt, mgI, mgL, mpI, mpL, mpZ, mvc, bnd2_s, bind_s, rz, lI, h1, h2, e, bI]
    · simp (disch := first | exact h | omega | (simp only [Mi_sI, Mi_sL, Mi_sAI, Mi_sAL, Mi_sAIr, Mi_sALr]; exact h)) [mR900, mR901, mR905, mR906, mR907, mR908, mR909, mR921, mR924, mR925, mR929, mR930, mR931, mR932, mR934, mR935, mR936, mR940, mR949, mR950, mR951, ml_at, ml_names, ml_sort, ml_trayMany, ml_trays, ml_tape, ml_text, ml_opened, ml_now, ml_lies, ml_moveKind, ml_moveOne, ml_moveTwo, ml_moveThird, ml_far, ml_come, ml_good, ml_way, ml_rounds, ml_told0, ml_endAt, ms_at, ms_names, ms_sort, ms_trayMany, ms_trays, ms_tape, ms_text, ms_opened, ms_now, ms_lies, ms_moveKind, ms_moveOne, ms_moveTwo, ms_moveThird, ms_far, ms_come, ms_good, ms_way, ms_rounds, ms_told0, ms_endAt, mgI, mgL, mpI, mpL, mpZ, mvc, bnd2_s, bind_s, rz, lI, h1, h2, e, bI]
end
/-! loops over a queue, with what is gathered -/
theorem loop_foldA {α : Type} {body : (Int32 × Int32 × ZT) → Option ((Int32 × Int32 × ZT) ⊕ (Int32 × ZT))} {L : List α} {f : Int32 → α → Int32} {P : ZT → Prop} (hs : ∀ j v, L[j]? = some v → ∀ a τ, P τ → ∃ τ', body (a, nI j, τ) = some (.inl (f a v, nI (j + 1), τ')) ∧ P τ') (he : ∀ a τ, P τ → body (a, nI L.length, τ) = some (.inr (a, τ))) : ∀ a τ, P τ → ∃ τ', loopC body (a, nI 0, τ) = some (L.foldl f a, τ') ∧ P τ' := by
  have key : ∀ (r l : List α), l ++ r = L → ∀ a τ, P τ → ∃ τ', loopC body (a, nI l.length, τ) = some (r.foldl f a, τ') ∧ P τ' := by
    intro r
    induction r with
    | nil =>
      intro l hl a τ hP
      rw [List.append_nil] at hl
      subst hl
      refine ⟨τ, ?_, hP⟩
      rw [loopC_step, he a τ hP]
      rfl
    | cons v r ih =>
      intro l hl a τ hP
      obtain ⟨τ1, h1, h2⟩ := hs l.length v (by rw [← hl]; simp) a τ hP
      obtain ⟨τ2, h3, h4⟩ := ih (l ++ [v]) (by rw [← hl]; simp) (f a v) τ1 h2
      refine ⟨τ2, ?_, h4⟩
      rw [loopC_step, h1]
      rw [List.length_append] at h3
      exact h3
  exact key L [] rfl
