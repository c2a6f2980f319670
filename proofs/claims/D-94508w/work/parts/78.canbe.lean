set_option maxRecDepth 100000
section
variable {x m t : Nat} {σ : ZT} {T : Nat → Int32} {B P O : Nat → Nat}
/-- whether it can be done at all, by what is thought otherwise -/
def can (T : Nat → Int32) (w : Ot) (K : Nat) : Bool := ((bfsK (msM T w) (b0 (enc T (nowS T))) K).2.find? (dn T)).isSome
theorem p_canBe (h : SB x m σ t T B P O) {K : Nat} (w : Ot) (hK : BE (msM T w) (enc T (nowS T)) K) : ∃ τ, f_X0_canBe x w.1 w.2.1 w.2.2 σ = some (bI (can T w K), τ) ∧ SQ x m σ τ ∧ zI τ 7 x = zI σ 7 x := by
  have hT := h.2.2.2.2.2.1
  have hS := h.2.2.2.2.2.2.1
  have x0 : CInv x σ := h.2.2.1.1
  have hc : HC x σ t T B P O := h.2.2.1
  have h503 : zI σ 503 (x + 25) = mI := h.2.2.2.2.2.2.2.2.1
  have h504 : zI σ 504 (x + 25) = mI := h.2.2.2.2.2.2.2.2.2.1
  have x1 : CInv x (sI σ 503 (x + 25) w.1) := x0
  have x2 : CInv x (sI (sI σ 503 (x + 25) w.1) 504 (x + 25) w.2.1) := x0
  have x3 : CInv x (sI (sI (sI σ 503 (x + 25) w.1) 504 (x + 25) w.2.1) 505 (x + 25) w.2.2) := x0
  have F3 : FR (x + 25) 503 505 0 0 σ (sI (sI (sI σ 503 (x + 25) w.1) 504 (x + 25) w.2.1) 505 (x + 25) w.2.2) := ((FR.sI (by decide) (by decide) _).trans (FR.sI (by decide) (by decide) _)).trans (FR.sI (by decide) (by decide) _)
  have hok := hc.2.2.2
  have hok2 := hok
  unfold tOK at hok2
  have tr3 : TR (sI (sI (sI σ 503 (x + 25) w.1) 504 (x + 25) w.2.1) 505 (x + 25) w.2.2) t T B P O := F3.tr (by omega) (by omega) hc.2.2.1
  have hc3 : HC x (sI (sI (sI σ 503 (x + 25) w.1) 504 (x + 25) w.2.1) 505 (x + 25) w.2.2) t T B P O := ⟨x3, hc.2.1, tr3, hok⟩
  have ew : cOt x (sI (sI (sI σ 503 (x + 25) w.1) 504 (x + 25) w.2.1) 505 (x + 25) w.2.2) = w := by
    unfold cOt
    simp [r_II]
  obtain ⟨r, τ, a1, a2, -, a4⟩ := p_done hc3 hT hS h.2.2.2.2.2.2.2.1 (K := K) (by rw [ew]; exact hK)
  rw [ew] at a4
  have xt : CInv x τ := a2.cinv x3
  have xt1 : CInv x (sI τ 503 (x + 25) mI) := xt
  have ecan : (r < nI 0 ∧ can T w K = false) ∨ (¬ r < nI 0 ∧ can T w K = true) := by
    unfold can
    rcases a4 with ⟨e1, e2⟩ | ⟨c, d, e1, e2, e3, e4, e5, e6⟩
    · left
      rw [e1, e2]
      exact ⟨mlt0, rfl⟩
    · right
      have hp := psi_lt hT e2
      rw [e1, e3]
      exact ⟨nI_pos (by omega), rfl⟩
  refine ⟨sI (sI τ 503 (x + 25) mI) 504 (x + 25) mI, ?_, ?_, ?_⟩
  · unfold f_X0_canBe f_X0_canBe_J36
    rcases ecan with ⟨e1, e2⟩ | ⟨e1, e2⟩
    · simp (disch := first | exact x0 | exact x1 | exact x2 | exact x3 | exact xt | exact xt1 | omega) [xr_14_0, xp_25, xv_0, a1, bnd2_s, lI, mI_eq, e1, e2, rz, bI]
    · simp (disch := first | exact x0 | exact x1 | exact x2 | exact x3 | exact xt | exact xt1 | omega) [xr_14_0, xp_25, xv_0, a1, bnd2_s, lI, mI_eq, e1, e2, rz, bI]
  · obtain ⟨g1, g2, g3, g4, g5, g6, g9, g10, g11⟩ := a2
    refine ⟨g1, g2, g3, g4, g5, g6, g9, fun f a z1 z2 z3 z4 => ?_, fun a z1 z2 z3 => g11 a z1 z2⟩
    rw [r_II]
    by_cases e4 : f = 504 ∧ a = x + 25
    · rw [if_pos e4, e4.1, e4.2, h504]
    · rw [if_neg e4, r_II]
      by_cases e3 : f = 503 ∧ a = x + 25
      · rw [if_pos e3, e3.1, e3.2, h503]
      · rw [if_neg e3, g10 f a (by omega) z2, r_II, if_neg (by omega), r_II, if_neg (by omega), r_II, if_neg (by omega)]
  · rw [r_II, if_neg (by omega), r_II, if_neg (by omega), a2.2.2.2.2.2.2.2.1 7 x (by omega) (by omega), r_II, if_neg (by omega), r_II, if_neg (by omega), r_II, if_neg (by omega)]
theorem q_canDo (h : MInv m σ) (hT : TW (zAI σ (m + 1))) (hS : SV (zAI σ (m + 1)) (nowS (zAI σ (m + 1)))) {K : Nat} (hK : BE (msM (zAI σ (m + 1)) (mOt m σ)) (enc (zAI σ (m + 1)) (nowS (zAI σ (m + 1)))) K) : ∃ τ, f_X9_canDo m σ = some (bI (can (zAI σ (m + 1)) (mOt m σ) K), τ) ∧ FR m 933 938 9 17 σ τ := by
  obtain ⟨τ1, K', a1, a2, a3⟩ := q_comes h hT hS
  cases a2.uniq hK
  have hB := (bfsK_inv (Cl_M hT (mOt m σ)) (VM_enc hT hS) K).1
  obtain ⟨τ2, b1, b2⟩ := q_fewestMoves h hT hB a3
  have m1 : MInv m τ1 := a3.1.inv h
  refine ⟨τ2, ?_, b2.1.mono (by omega) (by omega) (by omega) (by omega)⟩
  unfold f_X9_canDo f_X9_canDo_J17 can
  have hBl := hB.len
  cases hf : (bfsK (msM (zAI σ (m + 1)) (mOt m σ)) (b0 (enc (zAI σ (m + 1)) (nowS (zAI σ (m + 1))))) K).2.find? (dn (zAI σ (m + 1))) with
  | none =>
    have e : fd (zAI σ (m + 1)) (bfsK (msM (zAI σ (m + 1)) (mOt m σ)) (b0 (enc (zAI σ (m + 1)) (nowS (zAI σ (m + 1))))) K) = none := by unfold fd; rw [hf]; rfl
    rw [e] at b1
    simp (disch := first | exact h | exact m1 | omega) [mvc, a1, b1, bnd2_s, lI, mI_eq, oI, rz, bI]
  | some c =>
    obtain ⟨d, hd⟩ := Option.ne_none_iff_exists'.mp ((hB.2.1 c).mpr (List.mem_of_find?_eq_some hf))
    have hdl := hB.2.2.2 c d hd
    have e : fd (zAI σ (m + 1)) (bfsK (msM (zAI σ (m + 1)) (mOt m σ)) (b0 (enc (zAI σ (m + 1)) (nowS (zAI σ (m + 1))))) K) = some d := by unfold fd; rw [hf]; exact hd
    rw [e] at b1
    simp (disch := first | exact h | exact m1 | omega) [mvc, a1, b1, bnd2_s, lI, mI_eq, oI, rz, bI, nI_mI]
end
