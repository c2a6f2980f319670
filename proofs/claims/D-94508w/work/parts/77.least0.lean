set_option maxRecDepth 100000
section
variable {x m t : Nat} {σ : ZT} {T : Nat → Int32} {B P O : Nat → Nat}
theorem p_answer (h : CInv x σ) (v : Int32) : f_X0_answer x v σ = some (v, sI σ 7 x (if v < nI 0 then nI 6 else nI 0)) := by
  unfold f_X0_answer f_X0_answer_J11
  simp only [lI, xp_0 h, bind_s]
  split <;> rfl
theorem q_orNone (h : MInv m σ) (v : Int32) : f_X9_orNone m v σ = some (v, sI σ 902 m (if v = mI then nI 6 else nI 0)) := by
  unfold f_X9_orNone f_X9_orNone_J19 f_X9_refuse f_X9_gives
  by_cases e : v = mI
  · simp (disch := first | exact h | omega) [mvc, mpI, lI, mI_eq, e, bnd2_s]
  · simp (disch := first | exact h | omega) [mvc, mpI, lI, mI_eq, e, bnd2_s]
theorem pr_least0 (h : SB x m σ t T B P O) : Pr x m σ (f_X0_least x (nI 0)) (f_X9_least m (nI 0)) := by
  have hT := h.2.2.2.2.2.1
  have hS := h.2.2.2.2.2.2.1
  have x0 : CInv x σ := h.2.2.1.1
  have h1 := h.sq (SQ.st7 (nI 0))
  have x1 : CInv x (sI σ 7 x (nI 0)) := x0
  obtain ⟨K, hK⟩ := h1.K
  have hK1 := hK
  rw [← h1.ot] at hK1
  obtain ⟨r, τ, a1, a2, -, a4⟩ := p_done h1.2.2.1 hT hS h1.2.2.2.2.2.2.2.1 hK1
  rw [h1.ot] at a4
  have xt : CInv x τ := a2.cinv x1
  have is2 : f_X0_isIn ((nI 0).toInt64) (0 : Int64) (2 : Int64) σ = some (nI 1, σ) := by
    rw [p_isIn]
    rfl
  -- the component
  have comp : ∃ R, f_X0_least x (nI 0) σ = some (R, sI τ 7 x (if R < nI 0 then nI 6 else nI 0)) ∧ R = oI (fd T (bfsK (msM T (mOt m (sI σ 7 x (nI 0)))) (b0 (enc T (nowS T))) K)) ∧ (R = mI ∨ ∃ d, d < 129600 ∧ R = nI d) := by
    unfold fd
    rcases a4 with ⟨e1, e2⟩ | ⟨c, d, e1, e2, e3, e4, e5, e6⟩
    · refine ⟨mI, ?_, by rw [e2]; rfl, Or.inl rfl⟩
      subst e1
      unfold f_X0_least f_X0_least_J18 f_X0_least_J73
      simp (disch := first | exact x0 | exact x1 | exact xt | omega) [is2, bnd2_s, lI, n1n0, xp_0, xi_0, xv_0, r_II, a1, mlt0, mI_eq, p_answer xt, nlt]
    · have hp := psi_lt hT e2
      refine ⟨nI d, ?_, by rw [e3]; show nI d = oI ((bfsK (msM T (mOt m (sI σ 7 x (nI 0)))) (b0 (enc T (nowS T))) K).1 c); rw [e4]; rfl, Or.inr ⟨d, e5, rfl⟩⟩
      subst e1
      unfold f_X0_least f_X0_least_J18 f_X0_least_J73
      simp (disch := first | exact x0 | exact x1 | exact xt | omega) [is2, bnd2_s, lI, n1n0, xp_0, xi_0, xv_0, r_II, a1, mI_eq, p_answer xt, nlt, xr_15_0, xl_34, e6]
  obtain ⟨R, c1, c2, c3⟩ := comp
  have q1 : SQ x m (sI σ 7 x (nI 0)) (sI τ 7 x (if R < nI 0 then nI 6 else nI 0)) := (SQ.ofFX a2).trans (SQ.st7 _)
  have h2 := h1.sq q1
  have hK2 := hK
  rw [← mOt_sq q1 h1] at hK2 c2
  obtain ⟨τ2, b1, b2⟩ := h2.mall hK2
  have m1 : MInv m (sI τ 7 x (if R < nI 0 then nI 6 else nI 0)) := h2.2.2.2.1
  have eT : zAI (sI τ 7 x (if R < nI 0 then nI 6 else nI 0)) (m + 1) = T := h2.2.2.2.2.1
  have hB := (bfsK_inv (Cl_M hT (mOt m (sI τ 7 x (if R < nI 0 then nI 6 else nI 0)))) (VM_enc hT hS) K).1
  obtain ⟨τ3, d1, d2⟩ := q_fewestMoves m1 (by rw [eT]; exact hT) (by rw [eT]; exact hB) b2
  rw [eT] at d1
  have m2 : MInv m τ2 := b2.1.inv m1
  have m3 : MInv m τ3 := d2.1.inv m1
  rw [← c2] at d1
  have est : (if R = mI then nI 6 else nI 0) = (if R < nI 0 then nI 6 else nI 0) := by
    rcases c3 with rfl | ⟨d, hd, rfl⟩
    · rw [if_pos rfl, if_pos mlt0]
    · have w1 : ¬ nI d < nI 0 := nI_pos (by omega)
      have w2 : ¬ nI d = mI := fun hh => by rw [nI_mI (by omega)] at hh; exact hh
      rw [if_neg w1, if_neg w2]
  refine Pr.of2 h.1 (v := nI 0) (τ2 := τ3) c1 (SQ.ofFX a2) ?_ (d2.1.mono (by omega) (by omega) (by omega) (by omega))
  have hon := q_orNone m3 R
  rw [est] at hon
  unfold f_X9_least
  simp (disch := first | exact m1 | exact m2 | exact m3 | omega) [mvc, b1, d1, hon, bnd2_s, lI, nlt]
end
