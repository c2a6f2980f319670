set_option maxRecDepth 100000
section
variable {x m t : Nat} {σ τ : ZT} {T : Nat → Int32} {B P O : Nat → Nat}
/-- what is now is thought as it is -/
def NB (x : Nat) (σ : ZT) : Prop := zI σ 503 (x + 10) = mI ∧ zI σ 504 (x + 10) = mI
theorem SB.takes (h : SB x m σ t T B P O) : ∃ y, f_X9_takesNow m σ = some (NL m σ y) ∧ Agr T y (nowS T) ∧ MInv m (NL m σ y) ∧ zAI (NL m σ y) (m + 1) = T ∧ FR m 933 938 9 17 σ (NL m σ y) := by
  have m0 : MInv m σ := h.2.2.2.1
  have eT : zAI σ (m + 1) = T := h.2.2.2.2.1
  have a := q_takesNow m0
  rw [eT] at a
  exact ⟨_, a, mix_agr h.2.2.2.2.2.1 (nowS T) (zAI σ (m + 9), zAI σ (m + 10)), m0, by rw [NL_ne _ (by omega) (by omega)]; exact eT, FR.NL (by omega) (by omega) _⟩
theorem wgt_now (h : SB x m σ t T B P O) (hn : NB x σ) (y : St) (ha : Agr T y (nowS T)) {p : Nat} (hp : p < 6) : sWgt T (zAI σ (x + 17)) (zAI σ (x + 18)) (zI σ 504 (x + 10)) (zI σ 505 (x + 10)) p = sWgt T y.1 y.2 (zI σ 928 m) (zI σ 927 m) p := by
  have hN := h.2.2.2.2.2.2.2.1
  have e1 := (hN.trans ha.symm).wgt (zI σ 504 (x + 10)) (zI σ 505 (x + 10)) p
  have e1' : sWgt T (zAI σ (x + 17)) (zAI σ (x + 18)) (zI σ 504 (x + 10)) (zI σ 505 (x + 10)) p = sWgt T y.1 y.2 (zI σ 504 (x + 10)) (zI σ 505 (x + 10)) p := e1
  rw [e1']
  refine OtE.wgt (w := (mI, zI σ 504 (x + 10), zI σ 505 (x + 10))) (w' := (mI, zI σ 928 m, zI σ 927 m)) ⟨rfl, fun q hq => ?_⟩ y.1 y.2 hp
  show (if nI q = zI σ 504 (x + 10) then zI σ 505 (x + 10) else nI 0) = (if nI q = zI σ 928 m then zI σ 927 m else nI 0)
  rw [hn.2, h.2.2.2.2.2.2.2.2.2.2.2, if_neg (fun hh => by rw [nI_mI (by omega)] at hh; exact hh)]
  split <;> rfl
theorem pr_weight (h : SB x m σ t T B P O) (hn : NB x σ) (i : Int32) : Pr x m σ (f_X0_weight x i) (f_X9_weight m i) := by
  have hT := h.2.2.2.2.2.1
  have nb := hT.2.1
  have n6 := hT.2.1
  have n4 := hT.2.2.2.1
  have x0 : CInv x σ := h.2.2.1.1
  by_cases hok : ok i (fn T 0) = true
  · obtain ⟨p, hp, rfl⟩ := ok_of (by omega) hok
    have x1 : CInv x (sI σ 7 x (nI 0)) := x0
    have h1 := h.sq (SQ.st7 (nI 0))
    have m1 : MInv m (sI σ 7 x (nI 0)) := h1.2.2.2.1
    have eT : zAI (sI σ 7 x (nI 0)) (m + 1) = T := h1.2.2.2.2.1
    have hck := q_isPlace m1 (by rw [eT]; exact hT) (nI p)
    rw [eT, hok] at hck
    have hpi := p_isPlace h.2.2.1 hT (nI p)
    rw [hok] at hpi
    have sp : SP (sI σ 7 x (nI 0)) (x + 10) (x + 17) (x + 18) t T B P O := h1.2.2.1.spN
    obtain ⟨y, t1, t2, t3, t4, t5⟩ := h1.takes
    have hS1 : SV T (zAI (sI σ 7 x (nI 0)) (x + 17), zAI (sI σ 7 x (nI 0)) (x + 18)) := h.2.2.2.2.2.2.1.agr h1.2.2.2.2.2.2.2.1.symm
    have hw := p_weight sp hT hS1 (p := p) (by omega)
    have hq := q_weightAt t3 (by rw [t4]; exact hT) (p := p) (by omega)
    have hn1 : NB x (sI σ 7 x (nI 0)) := by
      refine ⟨?_, ?_⟩
      · rw [r_II, if_neg (by omega)]; exact hn.1
      · rw [r_II, if_neg (by omega)]; exact hn.2
    rw [t4, NL_at, NL_lies, NL_I, ← wgt_now h1 hn1 y t2 (by omega)] at hq
    refine Pr.of h.1 (v := nI 0) (τ1 := sI σ 7 x (nI 0)) (τ2 := NL m (sI σ 7 x (nI 0)) y) (R := sWgt T (zAI (sI σ 7 x (nI 0)) (x + 17)) (zAI (sI σ 7 x (nI 0)) (x + 18)) (zI (sI σ 7 x (nI 0)) 504 (x + 10)) (zI (sI σ 7 x (nI 0)) 505 (x + 10)) p) ?_ (FX.refl _) ?_ t5
    · unfold f_X0_weight f_X0_weight_J14 f_X0_weight_J39
      simp (disch := first | exact x0 | exact x1 | exact sp | omega) only [xv_0, hpi, bI, bnd2_s, lI, n1n0, if_true, if_false, xp_0, xi_0, r_II, and_self, xr_10_0, xr_400_9, pvc, hw, bind_s, nlt, Nat.lt_irrefl]
    · unfold f_X9_weight f_X9_gives
      simp (disch := first | exact m1 | exact t3 | omega) only [mvc, hck, bI, bnd2_s, lI, n1n0, if_true, if_false, mpI, t1, hq, bind_s]
  · have hok : ok i (fn T 0) = false := by simpa using hok
    have x1 : CInv x (sI σ 7 x (nI 1)) := x0
    have m1 : MInv m (sI σ 7 x (nI 1)) := h.2.2.2.1
    have eT : zAI (sI σ 7 x (nI 1)) (m + 1) = T := h.2.2.2.2.1
    have hck := q_isPlace m1 (by rw [eT]; exact hT) i
    rw [eT, hok] at hck
    have hpi := p_isPlace h.2.2.1 hT i
    rw [hok] at hpi
    refine Pr.of h.1 (R := mI) (v := nI 1) (τ1 := sI σ 7 x (nI 1)) (τ2 := sI σ 7 x (nI 1)) ?_ (FX.refl _) ?_ (FR.refl _)
    · unfold f_X0_weight f_X0_weight_J14 f_X0_weight_J39
      simp (disch := first | exact x0 | exact x1 | omega) [xv_0, hpi, bI, bnd2_s, lI, n1n0, xp_0, xi_0, r_II, mI_eq, nlt]
    · unfold f_X9_weight f_X9_refuse
      simp (disch := first | exact m1 | omega) [mvc, hck, bI, bnd2_s, lI, mI_eq, mpI]


theorem pr_carries (h : SB x m σ t T B P O) (i : Int32) : Pr x m σ (f_X0_carries x i) (f_X9_carries m i) := by
  have hT := h.2.2.2.2.2.1
  have nb := hT.2.2.2.1
  have n6 := hT.2.1
  have n4 := hT.2.2.2.1
  have x0 : CInv x σ := h.2.2.1.1
  by_cases hok : ok i (fn T 2) = true
  · obtain ⟨p, hp, rfl⟩ := ok_of (by omega) hok
    have x1 : CInv x (sI σ 7 x (nI 0)) := x0
    have h1 := h.sq (SQ.st7 (nI 0))
    have m1 : MInv m (sI σ 7 x (nI 0)) := h1.2.2.2.1
    have eT : zAI (sI σ 7 x (nI 0)) (m + 1) = T := h1.2.2.2.2.1
    have hck := q_isPerson m1 (by rw [eT]; exact hT) (nI p)
    rw [eT, hok] at hck
    have hpi := p_isPerson h.2.2.1 hT (nI p)
    rw [hok] at hpi
    have sp : SP (sI σ 7 x (nI 0)) (x + 10) (x + 17) (x + 18) t T B P O := h1.2.2.1.spN
    have hN := h1.2.2.2.2.2.2.2.1
    have hca := p_carried sp hT p
    have hlo : lo T (zAI (sI σ 7 x (nI 0)) (x + 18)) p = lo T (nowS T).2 p := hN.lo' p
    rw [hlo] at hca
    have h2 := h1.sq (SQ.st7 (if oI (lo T (nowS T).2 p) < nI 0 then nI 6 else nI 0))
    obtain ⟨y, t1, t2, t3, t4, t5⟩ := h2.takes
    have hq := q_loadOf t3 (by rw [t4]; exact hT) p
    rw [t4, NL_lies, t2.lo'] at hq
    have m2 : MInv m (sI (sI σ 7 x (nI 0)) 7 x (if oI (lo T (nowS T).2 p) < nI 0 then nI 6 else nI 0)) := h2.2.2.2.1
    have eT2 : zAI (sI (sI σ 7 x (nI 0)) 7 x (if oI (lo T (nowS T).2 p) < nI 0 then nI 6 else nI 0)) (m + 1) = T := h2.2.2.2.2.1
    have hck2 := q_isPerson m2 (by rw [eT2]; exact hT) (nI p)
    rw [eT2, hok] at hck2
    have est : (if oI (lo T (nowS T).2 p) = mI then nI 6 else nI 0) = (if oI (lo T (nowS T).2 p) < nI 0 then nI 6 else nI 0) := by
      cases hl : lo T (nowS T).2 p with
      | none => show (if mI = mI then nI 6 else nI 0) = (if mI < nI 0 then nI 6 else nI 0); rw [if_pos rfl, if_pos mlt0]
      | some d =>
        have hd := (lo_lt hl).1
        have n2 := hT.2.2.2.2.1
        have w1 : ¬ nI d < nI 0 := nI_pos (by omega)
        have w2 : ¬ nI d = mI := fun hh => by rw [nI_mI (by omega)] at hh; exact hh
        show (if nI d = mI then nI 6 else nI 0) = (if nI d < nI 0 then nI 6 else nI 0)
        rw [if_neg w1, if_neg w2]
    have hon := q_orNone t3 (oI (lo T (nowS T).2 p))
    rw [est] at hon
    refine Pr.of2 h.1 (v := nI 0) (τ1 := sI σ 7 x (nI 0)) (τ2 := NL m (sI (sI σ 7 x (nI 0)) 7 x (if oI (lo T (nowS T).2 p) < nI 0 then nI 6 else nI 0)) y) (R := oI (lo T (nowS T).2 p)) (v' := if oI (lo T (nowS T).2 p) < nI 0 then nI 6 else nI 0) ?_ (SQ.refl _) ?_ t5
    · unfold f_X0_carries f_X0_carries_J14 f_X0_carries_J43
      simp (disch := first | exact x0 | exact x1 | exact sp | omega) only [xv_0, hpi, bI, bnd2_s, lI, n1n0, if_true, if_false, xp_0, xi_0, r_II, and_self, xr_10_0, xr_400_9, pvc, hca, bind_s, nlt, Nat.lt_irrefl, p_answer x1]
    · unfold f_X9_carries
      simp (disch := first | exact m2 | exact t3 | omega) only [mvc, hck2, bI, bnd2_s, lI, n1n0, if_true, if_false, t1, hq, hon, bind_s]
  · have hok : ok i (fn T 2) = false := by simpa using hok
    have x1 : CInv x (sI σ 7 x (nI 1)) := x0
    have m1 : MInv m (sI σ 7 x (nI 1)) := h.2.2.2.1
    have eT : zAI (sI σ 7 x (nI 1)) (m + 1) = T := h.2.2.2.2.1
    have hck := q_isPerson m1 (by rw [eT]; exact hT) i
    rw [eT, hok] at hck
    have hpi := p_isPerson h.2.2.1 hT i
    rw [hok] at hpi
    refine Pr.of h.1 (R := mI) (v := nI 1) (τ1 := sI σ 7 x (nI 1)) (τ2 := sI σ 7 x (nI 1)) ?_ (FX.refl _) ?_ (FR.refl _)
    · unfold f_X0_carries f_X0_carries_J14 f_X0_carries_J43
      simp (disch := first | exact x0 | exact x1 | omega) [xv_0, hpi, bI, bnd2_s, lI, n1n0, xp_0, xi_0, r_II, mI_eq, nlt]
    · unfold f_X9_carries f_X9_refuse
      simp (disch := first | exact m1 | omega) [mvc, hck, bI, bnd2_s, lI, mI_eq, mpI]


end
