set_option maxRecDepth 100000
section
variable {x m t : Nat} {σ τ : ZT} {T : Nat → Int32} {B P O : Nat → Nat}
theorem p_in04 (i : Int32) (σ : ZT) : f_X0_isIn (i.toInt64) (0 : Int64) (4 : Int64) σ = some (bI (!decide (i < nI 0) && !decide (nI 4 < i)), σ) := by
  rw [p_isIn]
  have e1 : decide (i.toInt64 < (0 : Int64)) = decide (i < nI 0) := by simp only [cmp64_lo]
  have e2 : decide ((4 : Int64) < i.toInt64) = decide (nI 4 < i) := by
    have := cmp64_hi i 4 (by decide)
    rw [show (4 : Int64) = (nI 4).toInt64 from by decide]
    simp only [this]
  rw [e1, e2]
theorem pr_told (h : SB x m σ t T B P O) (i : Int32) : Pr x m σ (f_X0_told x i) (f_X9_told m i) := by
  have hT := h.2.2.2.2.2.1
  have x0 : CInv x σ := h.2.2.1.1
  have hin := p_in04 i σ
  by_cases hok : i < nI 0 ∨ nI 4 < i
  · have hf : (!decide (i < nI 0) && !decide (nI 4 < i)) = false := by
      rcases hok with e | e <;> simp [e]
    rw [hf] at hin
    have x1 : CInv x (sI σ 7 x (nI 1)) := x0
    have m1 : MInv m (sI σ 7 x (nI 1)) := h.2.2.2.1
    have hne : ∀ k, k ≤ 4 → ¬ i = nI k := by
      intro k hk e
      rw [e] at hok
      rcases hok with z | z
      · exact nI_pos (by omega) z
      · exact nI_nlt hk (by decide) z
    refine Pr.of h.1 (R := mI) (v := nI 1) (τ1 := sI σ 7 x (nI 1)) (τ2 := sI σ 7 x (nI 1)) ?_ (FX.refl _) ?_ (FR.refl _)
    · unfold f_X0_told f_X0_told_J18
      simp (disch := first | exact x0 | exact x1 | omega) [hin, bI, bnd2_s, lI, xp_0, mI_eq]
      simp only [hne 0 (by omega), hne 1 (by omega), hne 2 (by omega), hne 3 (by omega), hne 4 (by omega), if_false]
    · unfold f_X9_told f_X9_told_J9 f_X9_refuse
      by_cases e : i < nI 0
      · simp (disch := first | exact m1 | omega) [mvc, bnd2_s, lI, mI_eq, mpI, e]
      · have e2 : nI 4 < i := hok.resolve_left e
        simp (disch := first | exact m1 | omega) [mvc, bnd2_s, lI, mI_eq, mpI, e, e2]
  · have e1 : ¬ i < nI 0 := fun e => hok (Or.inl e)
    have e2 : ¬ nI 4 < i := fun e => hok (Or.inr e)
    have hf : (!decide (i < nI 0) && !decide (nI 4 < i)) = true := by simp [e1, e2]
    rw [hf] at hin
    obtain ⟨k, hk, rfl⟩ := nI_of2 (M := nI 4) (n := 4) (by decide) e1 (Int32.not_lt.mp e2)
    have x1 : CInv x (sI σ 7 x (nI 0)) := x0
    have h1 := h.sq (SQ.st7 (nI 0))
    have m1 : MInv m (sI σ 7 x (nI 0)) := h1.2.2.2.1
    have sp : SP (sI σ 7 x (nI 0)) (x + 10) (x + 17) (x + 18) t T B P O := h1.2.2.1.spN
    obtain ⟨y, t1, t2, t3, t4, t5⟩ := h1.takes
    by_cases k4 : k = 4
    · subst k4
      have hd := p_isDone sp hT
      have hq := q_isDone t3 (by rw [t4]; exact hT)
      have hN := h1.2.2.2.2.2.2.2.1
      have ed : sDone T (zAI (sI σ 7 x (nI 0)) (x + 17)) = sDone T y.1 := (hN.trans t2.symm).done
      rw [ed] at hd
      rw [t4, NL_at] at hq
      generalize sDone T y.1 = bb at hd hq
      refine Pr.of h.1 (R := bI bb) (v := nI 0) (τ1 := sI σ 7 x (nI 0)) (τ2 := NL m (sI σ 7 x (nI 0)) y) ?_ (FX.refl _) ?_ t5
      · unfold f_X0_told f_X0_told_J18 f_X0_told_J106
        cases bb <;> simp (disch := first | exact x0 | exact x1 | exact sp | omega) [hin, bI, bnd2_s, lI, n1n0, xp_0, neq, xr_10_0, xr_400_9, pvc, hd]
      · unfold f_X9_told f_X9_told_J46 f_X9_gives
        cases bb <;> simp (disch := first | exact m1 | exact t3 | omega) [mvc, bnd2_s, lI, n1n0, mpI, t1, hq, nlt, bI]
    · have hk4 : k = 0 ∨ k = 1 ∨ k = 2 ∨ k = 3 := by omega
      refine Pr.of h.1 (R := T k) (v := nI 0) (τ1 := sI σ 7 x (nI 0)) (τ2 := NL m (sI σ 7 x (nI 0)) y) ?_ (FX.refl _) ?_ t5
      · unfold f_X0_told f_X0_told_J18
        rcases hk4 with rfl | rfl | rfl | rfl <;> simp (disch := first | exact x0 | exact x1 | exact sp | omega) [hin, bI, bnd2_s, lI, n1n0, xp_0, xv_0, neq, p_town h1.2.2.1, t600, t601, t602, t603]
      · unfold f_X9_told f_X9_told_J46 f_X9_gives
        rcases hk4 with rfl | rfl | rfl | rfl <;> simp (disch := first | exact m1 | exact t3 | omega) [mvc, bnd2_s, lI, mpI, t1, nlt, mR900, ml_at, t4]
end
