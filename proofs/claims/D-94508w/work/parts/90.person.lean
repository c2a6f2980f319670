set_option maxRecDepth 100000
section
variable {x m t : Nat} {σ τ : ZT} {T : Nat → Int32} {B P O : Nat → Nat}
theorem p_in03 (i : Int32) (σ : ZT) : f_X0_isIn (i.toInt64) (0 : Int64) (3 : Int64) σ = some (bI (!decide (i < nI 0) && !decide (nI 3 < i)), σ) := by
  rw [p_isIn]
  have e1 : decide (i.toInt64 < (0 : Int64)) = decide (i < nI 0) := by simp only [cmp64_lo]
  have e2 : decide ((3 : Int64) < i.toInt64) = decide (nI 3 < i) := by
    have := cmp64_hi i 3 (by decide)
    rw [show (3 : Int64) = (nI 3).toInt64 from by decide]
    simp only [this]
  rw [e1, e2]
theorem pr_person (h : SB x m σ t T B P O) (i j : Int32) : Pr x m σ (f_X0_person x i j) (f_X9_person m i j) := by
  have hT := h.2.2.2.2.2.1
  have n4 := hT.2.2.2.1
  have n6 := hT.2.1
  have x0 : CInv x σ := h.2.2.1.1
  have hpi := p_isPerson h.2.2.1 hT i
  have hin := p_in03 j σ
  by_cases hok : ok i (fn T 2) = true ∧ ¬ j < nI 0 ∧ ¬ nI 3 < j
  · obtain ⟨o1, j1, j2⟩ := hok
    have hf : (!decide (j < nI 0) && !decide (nI 3 < j)) = true := by simp [j1, j2]
    rw [hf] at hin
    rw [o1] at hpi
    obtain ⟨p, hp, rfl⟩ := ok_of (by omega) o1
    have x1 : CInv x (sI σ 7 x (nI 0)) := x0
    have h1 := h.sq (SQ.st7 (nI 0))
    have sp : SP (sI σ 7 x (nI 0)) (x + 10) (x + 17) (x + 18) t T B P O := h1.2.2.1.spN
    have main : ∀ (V v : Int32), f_X0_person x (nI p) j σ = some (V, sI (sI σ 7 x (nI 0)) 7 x v) → (∀ u : ZT, MInv m u → zAI u (m + 1) = T → f_X9_person m (nI p) j u = some (V, sI u 902 m v)) → Pr x m σ (f_X0_person x (nI p) j) (f_X9_person m (nI p) j) := by
      intro V v c1 c2
      have h2 := h1.sq (SQ.st7 v)
      exact Pr.of2 h.1 (v := nI 0) (τ2 := sI (sI σ 7 x (nI 0)) 7 x v) c1 (SQ.refl _) (c2 _ h2.2.2.2.1 h2.2.2.2.2.1) (FR.refl _)
    have hck : ∀ u : ZT, MInv m u → zAI u (m + 1) = T → f_X9_isPerson m (nI p) u = some (nI 1, u) := by
      intro u mu eu
      have := q_isPerson mu (by rw [eu]; exact hT) (nI p)
      rw [eu, o1] at this
      exact this
    have hid : sI (sI σ 7 x (nI 0)) 7 x (nI 0) = sI σ 7 x (nI 0) := by
      have := sI_self (σ := sI σ 7 x (nI 0)) 7 x
      rw [r_II, if_pos ⟨rfl, rfl⟩] at this
      exact this
    have e0 : gI 12 1201 (P p) (sI σ 7 x (nI 0)) = some (T (86 + 5 * p)) := tp1201 sp hp
    by_cases ej0 : j = nI 0
    · refine main (T (86 + 5 * p)) (nI 0) ?_ (fun u mu eu => ?_)
      · rw [hid]
        unfold f_X0_person f_X0_person_J26 f_X0_person_J99
        simp (disch := first | exact x0 | exact x1 | exact sp | omega) [xv_0, hpi, hin, bI, bnd2_s, lI, n1n0, xp_0, xi_0, r_II, if_pos ej0, p_town h1.2.2.1, t607, tlp, e0]
      · have ej1 : ¬ j = nI 1 := by rw [ej0]; exact n0n1
        unfold f_X9_person f_X9_person_J62 f_X9_person_J68 f_X9_gives f_X9_ofPerson
        simp (disch := first | exact mu | omega) [mvc, hck u mu eu, bnd2_s, lI, n1n0, mpI, mR900, ml_at, nI_add, pk_mul, eu, j1, j2, if_neg ej1, if_pos ej0]
    · by_cases ej1 : j = nI 1
      · refine main (T (86 + 5 * p + 2)) (if T (86 + 5 * p + 2) < nI 0 then nI 6 else nI 0) ?_ (fun u mu eu => ?_)
        · unfold f_X0_person f_X0_person_J26 f_X0_person_J99
          simp (disch := first | exact x0 | exact x1 | exact sp | omega) [xv_0, hpi, hin, bI, bnd2_s, lI, n1n0, xp_0, xi_0, r_II, if_neg ej0, if_pos ej1, p_town h1.2.2.1, t607, tlp, tp1203, p_answer x1]
        · have hon := q_orNone mu (T (86 + 5 * p + 2))
          have est : (if T (86 + 5 * p + 2) = mI then nI 6 else nI 0) = (if T (86 + 5 * p + 2) < nI 0 then nI 6 else nI 0) := by
            have := wn_mI hT hp
            by_cases z : T (86 + 5 * p + 2) = mI
            · rw [if_pos z, if_pos (this.mpr z)]
            · rw [if_neg z, if_neg (fun hh => z (this.mp hh))]
          rw [est] at hon
          unfold f_X9_person f_X9_person_J68 f_X9_ofPerson
          simp (disch := first | exact mu | omega) [mvc, hck u mu eu, bnd2_s, lI, n1n0, mR900, ml_at, nI_add, pk_mul, eu, j1, j2, if_pos ej1, hon]
      · by_cases ej2 : j = nI 2
        · refine main (T (86 + 5 * p + 3)) (nI 0) ?_ (fun u mu eu => ?_)
          · rw [hid]
            unfold f_X0_person f_X0_person_J26 f_X0_person_J99
            simp (disch := first | exact x0 | exact x1 | exact sp | omega) [xv_0, hpi, hin, bI, bnd2_s, lI, n1n0, xp_0, xi_0, r_II, if_neg ej0, if_neg ej1, if_pos ej2, p_town h1.2.2.1, t607, tlp, tp1204]
          · unfold f_X9_person f_X9_person_J62 f_X9_person_J68 f_X9_gives f_X9_ofPerson
            simp (disch := first | exact mu | omega) [mvc, hck u mu eu, bnd2_s, lI, n1n0, mpI, mR900, ml_at, nI_add, pk_mul, eu, j1, j2, if_neg ej1, if_neg ej0, if_pos ej2]
        · refine main (T (86 + 5 * p + 4)) (nI 0) ?_ (fun u mu eu => ?_)
          · rw [hid]
            unfold f_X0_person f_X0_person_J26 f_X0_person_J99
            rcases led01 hT hp with z | z <;> simp (disch := first | exact x0 | exact x1 | exact sp | omega) [xv_0, hpi, hin, bI, bnd2_s, lI, n1n0, xp_0, xi_0, r_II, if_neg ej0, if_neg ej1, if_neg ej2, p_town h1.2.2.1, t607, tlp, tp1205, z]
          · unfold f_X9_person f_X9_person_J62 f_X9_person_J68 f_X9_gives f_X9_ofPerson
            simp (disch := first | exact mu | omega) [mvc, hck u mu eu, bnd2_s, lI, n1n0, mpI, mR900, ml_at, nI_add, pk_mul, eu, j1, j2, if_neg ej1, if_neg ej0, if_neg ej2]
  · have x1 : CInv x (sI σ 7 x (nI 1)) := x0
    have m1 : MInv m (sI σ 7 x (nI 1)) := h.2.2.2.1
    have eT : zAI (sI σ 7 x (nI 1)) (m + 1) = T := h.2.2.2.2.1
    have hck := q_isPerson m1 (by rw [eT]; exact hT) i
    rw [eT] at hck
    refine Pr.of h.1 (R := mI) (v := nI 1) (τ1 := sI σ 7 x (nI 1)) (τ2 := sI σ 7 x (nI 1)) ?_ (FX.refl _) ?_ (FR.refl _)
    · unfold f_X0_person f_X0_person_J25 f_X0_person_J26
      cases o1 : ok i (fn T 2) with
      | false =>
        rw [o1] at hpi
        simp (disch := first | exact x0 | exact x1 | omega) [xv_0, hpi, bI, bnd2_s, lI, xp_0, xi_0, r_II, mI_eq, nlt]
      | true =>
        have hf : (!decide (j < nI 0) && !decide (nI 3 < j)) = false := by
          by_cases z1 : j < nI 0
          · simp [z1]
          · by_cases z2 : nI 3 < j
            · simp [z2]
            · exact absurd ⟨o1, z1, z2⟩ hok
        rw [o1] at hpi
        rw [hf] at hin
        simp (disch := first | exact x0 | exact x1 | omega) [xv_0, hpi, hin, bI, bnd2_s, lI, n1n0, xp_0, xi_0, r_II, mI_eq, nlt]
    · unfold f_X9_person f_X9_person_J17 f_X9_refuse
      cases o1 : ok i (fn T 2) with
      | false =>
        rw [o1] at hck
        simp (disch := first | exact m1 | omega) [mvc, hck, bI, bnd2_s, lI, mI_eq, mpI]
      | true =>
        rw [o1] at hck
        by_cases z1 : j < nI 0
        · simp (disch := first | exact m1 | omega) [mvc, hck, bI, bnd2_s, lI, mI_eq, mpI, n1n0, z1]
        · have z2 : nI 3 < j := by
            by_cases z2 : nI 3 < j
            · exact z2
            · exact absurd ⟨o1, z1, z2⟩ hok
          simp (disch := first | exact m1 | omega) [mvc, hck, bI, bnd2_s, lI, mI_eq, mpI, n1n0, z1, z2]
end
