set_option maxRecDepth 100000
section
variable {x m t : Nat} {σ τ : ZT} {T : Nat → Int32} {B P O : Nat → Nat}
theorem cmp64_lo (i : Int32) : (i.toInt64 < (0 : Int64)) = (i < nI 0) := by
  apply propext
  rw [Int64.lt_iff_toInt_lt, Int32.lt_iff_toInt_lt, Int32.toInt_toInt64]
  rfl
theorem cmp64_hi (i : Int32) (n : Nat) (hn : n < 2 ^ 31) : ((nI n).toInt64 < i.toInt64) = (nI n < i) := by
  apply propext
  rw [Int64.lt_iff_toInt_lt, Int32.lt_iff_toInt_lt, Int32.toInt_toInt64, Int32.toInt_toInt64]
theorem pr_bestStone (h : SB x m σ t T B P O) (i : Int32) : Pr x m σ (f_X0_bestStone x i) (f_X9_bestStone m i) := by
  have hxm := h.1
  have hne : x ≠ m := by omega
  have x0 : CInv x σ := h.2.2.1.1
  have his : f_X0_isIn (i.toInt64) (0 : Int64) (1 : Int64) σ = some (bI (!decide (i < nI 0) && !decide (nI 1 < i)), σ) := by
    rw [p_isIn]
    have e1 : decide (i.toInt64 < (0 : Int64)) = decide (i < nI 0) := by simp only [cmp64_lo]
    have e2 : decide ((1 : Int64) < i.toInt64) = decide (nI 1 < i) := by
      have := cmp64_hi i 1 (by decide)
      rw [show (1 : Int64) = (nI 1).toInt64 from by decide]
      simp only [this]
    rw [e1, e2]
  by_cases hb : i < nI 0 ∨ nI 1 < i
  · have x1 : CInv x (sI σ 7 x (nI 1)) := x0
    have m1 : MInv m (sI σ 7 x (nI 1)) := h.2.2.2.1
    have hf : (!decide (i < nI 0) && !decide (nI 1 < i)) = false := by
      rcases hb with e | e <;> simp [e]
    rw [hf] at his
    refine Pr.of h.1 (R := mI) (v := nI 1) (τ1 := sI σ 7 x (nI 1)) (τ2 := sI σ 7 x (nI 1)) ?_ (FX.refl _) ?_ (FR.refl _)
    · unfold f_X0_bestStone f_X0_bestStone_J16
      simp (disch := first | exact x0 | exact x1 | omega) [his, bI, bnd2_s, lI, n1n0, xp_0, xi_0, r_II, mI_eq, nlt]
    · unfold f_X9_bestStone f_X9_bestStone_J9 f_X9_refuse
      by_cases e : i < nI 0
      · simp (disch := first | exact m1 | omega) [mvc, bnd2_s, lI, mI_eq, mpI, e]
      · have e2 : nI 1 < i := hb.resolve_left e
        simp (disch := first | exact m1 | omega) [mvc, bnd2_s, lI, mI_eq, mpI, e, e2]
  · have e1 : ¬ i < nI 0 := fun e => hb (Or.inl e)
    have e2 : ¬ nI 1 < i := fun e => hb (Or.inr e)
    have hf : (!decide (i < nI 0) && !decide (nI 1 < i)) = true := by simp [e1, e2]
    rw [hf] at his
    have x1 : CInv x (sI σ 7 x (nI 0)) := x0
    have h1 := h.sq (SQ.st7 (nI 0))
    have hl9 : ∀ p d, lsN T p = some d → d ≤ 999 := by
      intro p d hd
      obtain ⟨-, -, -, -, q⟩ := p_leastStone h1 p
      exact q d hd
    obtain ⟨τ1, o, a1, a2, a3, a4, a5⟩ := p_best h1 i
    have xt : CInv x τ1 := a4.cinv x1
    have main : ∀ V v : Int32, (f_X0_bestStone x i σ = some (V, sI τ1 7 x v)) → (∀ u τ2 : ZT, MInv m u → MInv m τ2 → loopC (fun s : (Int32 × Int32 × Int32 × ZT) => f_X9_bestStone_L22 m i s.1 s.2.1 s.2.2.1 s.2.2.2) (mI, nI 0, nI 0, u) = some (bsA o, bsL o, τ2) → f_X9_bestStone m i u = some (V, sI τ2 902 m v)) → Pr x m σ (f_X0_bestStone x i) (f_X9_bestStone m i) := by
      intro V v c1 c2
      have h2 := h1.sq (a4.trans (SQ.st7 v))
      obtain ⟨τ2, b1, b2, b3⟩ := q_best h2 hl9 i
      rw [← a2] at b1
      have m1 : MInv m (sI τ1 7 x v) := h2.2.2.2.1
      refine ⟨V, _, _, c1, c2 _ τ2 m1 (b2.minv m1) b1, (((SQ.st7 (nI 0)).trans (a4.trans (SQ.st7 v))).trans b2).trans (SQ.st902 v), ?_⟩
      rw [r_II, if_neg (by omega), r_II, if_pos ⟨rfl, rfl⟩, b3, r_II, if_pos ⟨rfl, rfl⟩]
    cases ho : o with
    | none =>
      rw [ho] at a1
      refine main mI (nI 6) ?_ (fun u τ2 mu m2 b1 => ?_)
      · unfold f_X0_bestStone f_X0_bestStone_J16 f_X0_bestStone_J103
        simp (disch := first | exact x0 | exact x1 | exact xt | omega) [his, bI, bnd2_s, lI, n1n0, xp_0, xi_0, xv_0, r_II, mI_eq, a1, bsA, mlt0, p_answer xt]
      · rw [ho] at b1
        unfold f_X9_bestStone f_X9_refuse f_X9_bestStone_J100
        simp (disch := first | exact mu | exact m2 | omega) [mvc, mpI, bnd2_s, lI, mI_eq, e1, e2, b1, bsA]
    | some q =>
      have hq := a3 q ho
      rw [ho] at a1
      have w1 : ¬ nI q.1 < nI 0 := nI_pos (by omega)
      have w2 : ¬ nI q.2 < nI 0 := nI_pos (by omega)
      have w3 : ¬ nI q.1 = mI := fun hh => by rw [nI_mI (by omega)] at hh; exact hh
      by_cases ei : i = nI 0
      · refine main (nI q.1) (nI 0) ?_ (fun u τ2 mu m2 b1 => ?_)
        · unfold f_X0_bestStone f_X0_bestStone_J16 f_X0_bestStone_J103
          simp (disch := first | exact x0 | exact x1 | exact xt | omega) [his, bI, bnd2_s, lI, n1n0, xp_0, xi_0, xv_0, r_II, mI_eq, a1, bsA, bsL, w1, p_answer xt, if_pos ei]
        · rw [ho] at b1
          unfold f_X9_bestStone f_X9_bestStone_J97 f_X9_gives f_X9_bestStone_J100
          simp (disch := first | exact mu | exact m2 | omega) [mvc, mpI, bnd2_s, lI, mI_eq, e1, e2, b1, bsA, bsL, w3, if_pos ei]
      · refine main (nI q.2) (nI 0) ?_ (fun u τ2 mu m2 b1 => ?_)
        · unfold f_X0_bestStone f_X0_bestStone_J16 f_X0_bestStone_J103
          simp (disch := first | exact x0 | exact x1 | exact xt | omega) [his, bI, bnd2_s, lI, n1n0, xp_0, xi_0, xv_0, r_II, mI_eq, a1, bsA, bsL, w1, w2, p_answer xt, ei]
        · rw [ho] at b1
          unfold f_X9_bestStone f_X9_bestStone_J97 f_X9_gives f_X9_bestStone_J100
          simp (disch := first | exact mu | exact m2 | omega) [mvc, mpI, bnd2_s, lI, mI_eq, e1, e2, b1, bsA, bsL, w3, ei]
end
