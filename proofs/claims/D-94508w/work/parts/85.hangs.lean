set_option maxRecDepth 100000
section
variable {x m t : Nat} {σ τ : ZT} {T : Nat → Int32} {B P O : Nat → Nat}
theorem pr_hangs (h : SB x m σ t T B P O) (hn : NB x σ) (i : Int32) : Pr x m σ (f_X0_hangs x i) (f_X9_hangs m i) := by
  have hT := h.2.2.2.2.2.1
  have nb := hT.2.2.1
  have n6 := hT.2.1
  have n4 := hT.2.2.2.1
  have x0 : CInv x σ := h.2.2.1.1
  by_cases hok : ok i (fn T 1) = true
  · obtain ⟨p, hp, rfl⟩ := ok_of (by omega) hok
    have x1 : CInv x (sI σ 7 x (nI 0)) := x0
    have h1 := h.sq (SQ.st7 (nI 0))
    have m1 : MInv m (sI σ 7 x (nI 0)) := h1.2.2.2.1
    have eT : zAI (sI σ 7 x (nI 0)) (m + 1) = T := h1.2.2.2.2.1
    have hck := q_isBridge m1 (by rw [eT]; exact hT) (nI p)
    rw [eT, hok] at hck
    have hpi := p_isBridge h.2.2.1 hT (nI p)
    rw [hok] at hpi
    have sp : SP (sI σ 7 x (nI 0)) (x + 10) (x + 17) (x + 18) t T B P O := h1.2.2.1.spN
    obtain ⟨y, t1, t2, t3, t4, t5⟩ := h1.takes
    have hS1 : SV T (zAI (sI σ 7 x (nI 0)) (x + 17), zAI (sI σ 7 x (nI 0)) (x + 18)) := h.2.2.2.2.2.2.1.agr h1.2.2.2.2.2.2.2.1.symm
    have hn1 : NB x (sI σ 7 x (nI 0)) := by
      refine ⟨?_, ?_⟩
      · rw [r_II, if_neg (by omega)]; exact hn.1
      · rw [r_II, if_neg (by omega)]; exact hn.2
    have h9 := hT.2.2.2.2.2.1 p hp
    have hw := p_hangs sp hT hS1 hp
    have hq := q_hangsBy t3 (by rw [t4]; exact hT) (b := p) (by rw [t4]; exact hp) (nI 0)
    have z1 : zI (sI σ 7 x (nI 0)) 503 (x + 10) = mI := hn1.1
    have z2 : zI (sI σ 7 x (nI 0)) 926 m = mI := h1.2.2.2.2.2.2.2.2.2.2.1
    rw [z1, if_neg (fun hh => by rw [nI_mI (by omega)] at hh; exact hh)] at hw
    have ehg : sHang T (zAI (sI σ 7 x (nI 0)) (x + 17)) (zAI (sI σ 7 x (nI 0)) (x + 18)) mI (zI (sI σ 7 x (nI 0)) 504 (x + 10)) (zI (sI σ 7 x (nI 0)) 505 (x + 10)) p (nI 0) = sHang T y.1 y.2 mI (zI (sI σ 7 x (nI 0)) 928 m) (zI (sI σ 7 x (nI 0)) 927 m) p (nI 0) := by
      unfold sHang
      rw [wgt_now h1 hn1 y t2 (show fn T (14 + 9 * p + 2) < 6 by omega)]
    rw [ehg] at hw
    rw [t4, NL_at, NL_lies, NL_I, z2] at hq
    generalize sHang T y.1 y.2 mI (zI (sI σ 7 x (nI 0)) 928 m) (zI (sI σ 7 x (nI 0)) 927 m) p (nI 0) = bb at hw hq
    refine Pr.of h.1 (v := nI 0) (τ1 := sI σ 7 x (nI 0)) (τ2 := NL m (sI σ 7 x (nI 0)) y) (R := bI bb) ?_ (FX.refl _) ?_ t5
    · unfold f_X0_hangs f_X0_hangs_J14 f_X0_hangs_J47
      cases bb <;> simp (disch := first | exact x0 | exact x1 | exact sp | omega) [xv_0, hpi, bI, bnd2_s, lI, n1n0, xp_0, xi_0, r_II, xr_10_0, xr_400_9, pvc, hw]
    · unfold f_X9_hangs f_X9_hangs_J33 f_X9_gives
      cases bb <;> simp (disch := first | exact m1 | exact t3 | omega) [mvc, hck, bI, bnd2_s, lI, n1n0, mpI, t1, hq]
  · have hok : ok i (fn T 1) = false := by simpa using hok
    have x1 : CInv x (sI σ 7 x (nI 1)) := x0
    have m1 : MInv m (sI σ 7 x (nI 1)) := h.2.2.2.1
    have eT : zAI (sI σ 7 x (nI 1)) (m + 1) = T := h.2.2.2.2.1
    have hck := q_isBridge m1 (by rw [eT]; exact hT) i
    rw [eT, hok] at hck
    have hpi := p_isBridge h.2.2.1 hT i
    rw [hok] at hpi
    refine Pr.of h.1 (R := mI) (v := nI 1) (τ1 := sI σ 7 x (nI 1)) (τ2 := sI σ 7 x (nI 1)) ?_ (FX.refl _) ?_ (FR.refl _)
    · unfold f_X0_hangs f_X0_hangs_J14 f_X0_hangs_J47
      simp (disch := first | exact x0 | exact x1 | omega) [xv_0, hpi, bI, bnd2_s, lI, n1n0, xp_0, xi_0, r_II, mI_eq, nlt]
    · unfold f_X9_hangs f_X9_refuse
      simp (disch := first | exact m1 | omega) [mvc, hck, bI, bnd2_s, lI, mI_eq, mpI]


end
