set_option maxRecDepth 100000
section
variable {x m t : Nat} {σ τ : ZT} {T : Nat → Int32} {B P O : Nat → Nat}
theorem p_in01 (i : Int32) (σ : ZT) : f_X0_isIn (i.toInt64) (0 : Int64) (1 : Int64) σ = some (bI (!decide (i < nI 0) && !decide (nI 1 < i)), σ) := by
  rw [p_isIn]
  have e1 : decide (i.toInt64 < (0 : Int64)) = decide (i < nI 0) := by simp only [cmp64_lo]
  have e2 : decide ((1 : Int64) < i.toInt64) = decide (nI 1 < i) := by
    have := cmp64_hi i 1 (by decide)
    rw [show (1 : Int64) = (nI 1).toInt64 from by decide]
    simp only [this]
  rw [e1, e2]
theorem pr_load (h : SB x m σ t T B P O) (i j : Int32) : Pr x m σ (f_X0_load x i j) (f_X9_load m i j) := by
  have hT := h.2.2.2.2.2.1
  have n2 := hT.2.2.2.2.1
  have n4 := hT.2.2.2.1
  have n6 := hT.2.1
  have x0 : CInv x σ := h.2.2.1.1
  have hpi := p_isLoad h.2.2.1 hT i
  have hin := p_in01 j σ
  by_cases hok : ok i (fn T 3) = true ∧ ¬ j < nI 0 ∧ ¬ nI 1 < j
  · obtain ⟨o1, j1, j2⟩ := hok
    have hf : (!decide (j < nI 0) && !decide (nI 1 < j)) = true := by simp [j1, j2]
    rw [hf] at hin
    rw [o1] at hpi
    obtain ⟨l, hl, rfl⟩ := ok_of (by omega) o1
    have x1 : CInv x (sI σ 7 x (nI 0)) := x0
    have h1 := h.sq (SQ.st7 (nI 0))
    have m1 : MInv m (sI σ 7 x (nI 0)) := h1.2.2.2.1
    have eT : zAI (sI σ 7 x (nI 0)) (m + 1) = T := h1.2.2.2.2.1
    have hck := q_isLoad m1 (by rw [eT]; exact hT) (nI l)
    rw [eT, o1] at hck
    have sp : SP (sI σ 7 x (nI 0)) (x + 10) (x + 17) (x + 18) t T B P O := h1.2.2.1.spN
    have hN := h1.2.2.2.2.2.2.2.1
    have hS := h1.2.2.2.2.2.2.1
    have hS1 : SV T (zAI (sI σ 7 x (nI 0)) (x + 17), zAI (sI σ 7 x (nI 0)) (x + 18)) := hS.agr hN.symm
    by_cases ej : j = nI 0
    · have e0 : gI 13 1301 (O l) (sI σ 7 x (nI 0)) = some (T (106 + 2 * l)) := to1301 sp hl
      refine Pr.of h.1 (R := T (106 + 2 * l)) (v := nI 0) (τ1 := sI σ 7 x (nI 0)) (τ2 := sI σ 7 x (nI 0)) ?_ (FX.refl _) ?_ (FR.refl _)
      · unfold f_X0_load f_X0_load_J24 f_X0_load_J68
        simp (disch := first | exact x0 | exact x1 | exact sp | omega) [xv_0, hpi, hin, bI, bnd2_s, lI, n1n0, xp_0, xi_0, r_II, if_pos ej, p_town h1.2.2.1, t608, tlo, e0]
      · unfold f_X9_load f_X9_load_J74 f_X9_gives
        simp (disch := first | exact m1 | omega) [mvc, hck, bI, bnd2_s, lI, n1n0, mpI, mR900, ml_at, nI_add, pk_mul, eT, j1, j2, if_pos ej]
    · have hpl := p_placeOf sp hT hS1 hl
      obtain ⟨g1, g2⟩ := hS.2.1 l hl
      have g1 : T (114 + l) = nI (fn (nowS T).2 l) := g1
      have a1 : zAI (sI σ 7 x (nI 0)) (x + 18) l = T (114 + l) := hN.2 l hl
      unfold sPl at hpl
      rw [a1, g1] at hpl
      generalize fn (nowS T).2 l = v at *
      by_cases e6 : v < 6
      · have c1 : nI v < nI 6 := nI_lt e6 (by decide)
        rw [if_pos c1] at hpl
        refine Pr.of h.1 (R := nI v) (v := nI 0) (τ1 := sI σ 7 x (nI 0)) (τ2 := sI σ 7 x (nI 0)) ?_ (FX.refl _) ?_ (FR.refl _)
        · unfold f_X0_load f_X0_load_J24 f_X0_load_J68
          simp (disch := first | exact x0 | exact x1 | exact sp | omega) [xv_0, hpi, hin, bI, bnd2_s, lI, n1n0, xp_0, xi_0, r_II, if_neg ej, xr_10_0, xr_400_9, pvc, hpl]
        · unfold f_X9_load f_X9_load_J74 f_X9_gives
          simp (disch := first | exact m1 | omega) [mvc, hck, bI, bnd2_s, lI, n1n0, mpI, mR900, ml_at, nI_add, eT, j1, j2, if_neg ej, g1, c1]
      · have c1 : ¬ nI v < nI 6 := nI_nlt (by omega) (by omega)
        have e7 : nI v - nI 6 = nI (v - 6) := nsub (by omega)
        have e8 : (nI (v - 6)).toNatClampNeg = v - 6 := nI_clamp (by omega)
        have e9 : zAI (sI σ 7 x (nI 0)) (x + 17) (v - 6) = T (110 + (v - 6)) := hN.1 (v - 6) (by omega)
        have e10 : nI (110 + v) - nI 6 = nI (110 + (v - 6)) := by rw [nsub (by omega)]; congr 1; omega
        rw [if_neg c1, e7, e8, e9] at hpl
        refine Pr.of h.1 (R := T (110 + (v - 6))) (v := nI 0) (τ1 := sI σ 7 x (nI 0)) (τ2 := sI σ 7 x (nI 0)) ?_ (FX.refl _) ?_ (FR.refl _)
        · unfold f_X0_load f_X0_load_J24 f_X0_load_J68
          simp (disch := first | exact x0 | exact x1 | exact sp | omega) [xv_0, hpi, hin, bI, bnd2_s, lI, n1n0, xp_0, xi_0, r_II, if_neg ej, xr_10_0, xr_400_9, pvc, hpl]
        · unfold f_X9_load f_X9_load_J74 f_X9_gives
          simp (disch := first | exact m1 | omega) [mvc, hck, bI, bnd2_s, lI, n1n0, mpI, mR900, ml_at, nI_add, eT, j1, j2, if_neg ej, g1, c1, e10]
  · have x1 : CInv x (sI σ 7 x (nI 1)) := x0
    have m1 : MInv m (sI σ 7 x (nI 1)) := h.2.2.2.1
    have eT : zAI (sI σ 7 x (nI 1)) (m + 1) = T := h.2.2.2.2.1
    have hck := q_isLoad m1 (by rw [eT]; exact hT) i
    rw [eT] at hck
    refine Pr.of h.1 (R := mI) (v := nI 1) (τ1 := sI σ 7 x (nI 1)) (τ2 := sI σ 7 x (nI 1)) ?_ (FX.refl _) ?_ (FR.refl _)
    · unfold f_X0_load f_X0_load_J23 f_X0_load_J24 f_X0_load_J68
      cases o1 : ok i (fn T 3) with
      | false =>
        rw [o1] at hpi
        simp (disch := first | exact x0 | exact x1 | omega) [xv_0, hpi, bI, bnd2_s, lI, xp_0, xi_0, r_II, mI_eq, nlt]
      | true =>
        have hf : (!decide (j < nI 0) && !decide (nI 1 < j)) = false := by
          by_cases z1 : j < nI 0
          · simp [z1]
          · by_cases z2 : nI 1 < j
            · simp [z2]
            · exact absurd ⟨o1, z1, z2⟩ hok
        rw [o1] at hpi
        rw [hf] at hin
        simp (disch := first | exact x0 | exact x1 | omega) [xv_0, hpi, hin, bI, bnd2_s, lI, n1n0, xp_0, xi_0, r_II, mI_eq, nlt]
    · unfold f_X9_load f_X9_load_J17 f_X9_refuse
      cases o1 : ok i (fn T 3) with
      | false =>
        rw [o1] at hck
        simp (disch := first | exact m1 | omega) [mvc, hck, bI, bnd2_s, lI, mI_eq, mpI]
      | true =>
        rw [o1] at hck
        by_cases z1 : j < nI 0
        · simp (disch := first | exact m1 | omega) [mvc, hck, bI, bnd2_s, lI, mI_eq, mpI, n1n0, z1]
        · have z2 : nI 1 < j := by
            by_cases z2 : nI 1 < j
            · exact z2
            · exact absurd ⟨o1, z1, z2⟩ hok
          simp (disch := first | exact m1 | omega) [mvc, hck, bI, bnd2_s, lI, mI_eq, mpI, n1n0, z1, z2]
end
