set_option maxRecDepth 100000
section
variable {x m t : Nat} {σ τ : ZT} {T : Nat → Int32} {B P O : Nat → Nat}
theorem pr_stones (h : SB x m σ t T B P O) (i : Int32) : Pr x m σ (f_X0_stones x i) (f_X9_stones m i) := by
  have hT := h.2.2.2.2.2.1
  have nb := hT.2.1
  have n6 := hT.2.1
  have n4 := hT.2.2.2.1
  have x0 : CInv x σ := h.2.2.1.1
  by_cases hok : ok i (fn T 0) = true
  · obtain ⟨p, hp, rfl⟩ := ok_of (by omega) hok
    have x1 : CInv x (sI σ 7 x (nI 0)) := x0
    have h1 := h.sq (SQ.st7 (nI 0))
    have m1 : MInv m (sI σ 7 x (nI 0)) := h1.2.2.2.1
    have eT : zAI (sI σ 7 x (nI 0)) (m + 1) = T := h1.2.2.2.2.1
    have hck := q_isPlace m1 (by rw [eT]; exact hT) (nI p)
    rw [eT, hok] at hck
    have hpi := p_isPlace h.2.2.1 hT (nI p)
    rw [hok] at hpi
    have sp : SP (sI σ 7 x (nI 0)) (x + 10) (x + 17) (x + 18) t T B P O := h1.2.2.1.spN
    refine Pr.of h.1 (R := T (8 + p)) (v := nI 0) (τ1 := sI σ 7 x (nI 0)) (τ2 := sI σ 7 x (nI 0)) ?_ (FX.refl _) ?_ (FR.refl _)
    · unfold f_X0_stones f_X0_stones_J14 f_X0_stones_J37
      simp (disch := first | exact x0 | exact x1 | exact sp | omega) [xv_0, hpi, bI, bnd2_s, lI, n1n0, xp_0, xi_0, r_II, p_town h1.2.2.1, t605, tls]
    · unfold f_X9_stones f_X9_stones_J29 f_X9_gives
      simp (disch := first | exact m1 | omega) [mvc, hck, bI, bnd2_s, lI, n1n0, mpI, mR900, ml_at, nI_add, eT]
  · have hok : ok i (fn T 0) = false := by simpa using hok
    have x1 : CInv x (sI σ 7 x (nI 1)) := x0
    have m1 : MInv m (sI σ 7 x (nI 1)) := h.2.2.2.1
    have eT : zAI (sI σ 7 x (nI 1)) (m + 1) = T := h.2.2.2.2.1
    have hck := q_isPlace m1 (by rw [eT]; exact hT) i
    rw [eT, hok] at hck
    have hpi := p_isPlace h.2.2.1 hT i
    rw [hok] at hpi
    refine Pr.of h.1 (R := mI) (v := nI 1) (τ1 := sI σ 7 x (nI 1)) (τ2 := sI σ 7 x (nI 1)) ?_ (FX.refl _) ?_ (FR.refl _)
    · unfold f_X0_stones f_X0_stones_J14 f_X0_stones_J37
      simp (disch := first | exact x0 | exact x1 | omega) [xv_0, hpi, bI, bnd2_s, lI, n1n0, xp_0, xi_0, r_II, mI_eq, nlt]
    · unfold f_X9_stones f_X9_stones_J29 f_X9_refuse
      simp (disch := first | exact m1 | omega) [mvc, hck, bI, bnd2_s, lI, mI_eq, mpI]

theorem pr_at (h : SB x m σ t T B P O) (i : Int32) : Pr x m σ (f_X0_at x i) (f_X9_at m i) := by
  have hT := h.2.2.2.2.2.1
  have nb := hT.2.2.2.1
  have n6 := hT.2.1
  have n4 := hT.2.2.2.1
  have x0 : CInv x σ := h.2.2.1.1
  by_cases hok : ok i (fn T 2) = true
  · obtain ⟨p, hp, rfl⟩ := ok_of (by omega) hok
    have x1 : CInv x (sI σ 7 x (nI 0)) := x0
    have h1 := h.sq (SQ.st7 (nI 0))
    have m1 : MInv m (sI σ 7 x (nI 0)) := h1.2.2.2.1
    have eT : zAI (sI σ 7 x (nI 0)) (m + 1) = T := h1.2.2.2.2.1
    have hck := q_isPerson m1 (by rw [eT]; exact hT) (nI p)
    rw [eT, hok] at hck
    have hpi := p_isPerson h.2.2.1 hT (nI p)
    rw [hok] at hpi
    have sp : SP (sI σ 7 x (nI 0)) (x + 10) (x + 17) (x + 18) t T B P O := h1.2.2.1.spN
    have hv : zAI σ (x + 17) p = T (110 + p) := h.2.2.2.2.2.2.2.1.1 p hp
    refine Pr.of h.1 (R := T (110 + p)) (v := nI 0) (τ1 := sI σ 7 x (nI 0)) (τ2 := sI σ 7 x (nI 0)) ?_ (FX.refl _) ?_ (FR.refl _)
    · unfold f_X0_at f_X0_at_J14 f_X0_at_J40
      simp (disch := first | exact x0 | exact x1 | exact sp | omega) [xv_0, hpi, bI, bnd2_s, lI, n1n0, xp_0, xi_0, r_II, xr_10_0, xr_400_9, p501, pl1, zAI_sI, hv]
    · unfold f_X9_at f_X9_at_J29 f_X9_gives
      simp (disch := first | exact m1 | omega) [mvc, hck, bI, bnd2_s, lI, n1n0, mpI, mR900, ml_at, nI_add, eT]
  · have hok : ok i (fn T 2) = false := by simpa using hok
    have x1 : CInv x (sI σ 7 x (nI 1)) := x0
    have m1 : MInv m (sI σ 7 x (nI 1)) := h.2.2.2.1
    have eT : zAI (sI σ 7 x (nI 1)) (m + 1) = T := h.2.2.2.2.1
    have hck := q_isPerson m1 (by rw [eT]; exact hT) i
    rw [eT, hok] at hck
    have hpi := p_isPerson h.2.2.1 hT i
    rw [hok] at hpi
    refine Pr.of h.1 (R := mI) (v := nI 1) (τ1 := sI σ 7 x (nI 1)) (τ2 := sI σ 7 x (nI 1)) ?_ (FX.refl _) ?_ (FR.refl _)
    · unfold f_X0_at f_X0_at_J14 f_X0_at_J40
      simp (disch := first | exact x0 | exact x1 | omega) [xv_0, hpi, bI, bnd2_s, lI, n1n0, xp_0, xi_0, r_II, mI_eq, nlt]
    · unfold f_X9_at f_X9_at_J29 f_X9_refuse
      simp (disch := first | exact m1 | omega) [mvc, hck, bI, bnd2_s, lI, mI_eq, mpI]

end
