set_option maxRecDepth 100000
section
variable {x m t : Nat} {σ τ : ZT} {T : Nat → Int32} {B P O : Nat → Nat}
theorem gW_of (hT : TW T) {i j k : Int32} (h : gW T i j k = true) : ∃ a b br, i = nI a ∧ j = oI b ∧ k = nI br ∧ a < fn T 2 ∧ (∀ q, b = some q → q < fn T 2 ∧ q ≠ a) ∧ br < fn T 1 := by
  have n4 := hT.2.2.2.1
  have n8 := hT.2.2.1
  unfold gW at h
  simp only [Bool.and_eq_true, Bool.or_eq_true, decide_eq_true_eq, Bool.not_eq_true', decide_eq_false_iff_not] at h
  obtain ⟨⟨h1, h2⟩, h3⟩ := h
  obtain ⟨a, ha, rfl⟩ := ok_of (by omega) h1
  obtain ⟨br, hbr, rfl⟩ := ok_of (by omega) h3
  rcases h2 with rfl | ⟨h2, h4⟩
  · exact ⟨a, none, br, rfl, rfl, rfl, ha, fun q hq => (by cases hq), hbr⟩
  · obtain ⟨q, hq, rfl⟩ := ok_of (by omega) h2
    refine ⟨a, some q, br, rfl, rfl, rfl, ha, fun q' hq' => ?_, hbr⟩
    cases hq'
    exact ⟨hq, fun e => h4 (by rw [e])⟩
theorem pr_why (h : SB x m σ t T B P O) (hn : NB x σ) (i j k : Int32) : Pr x m σ (f_X0_why x i j k) (f_X9_why m i j k) := by
  have hT := h.2.2.2.2.2.1
  have x0 : CInv x σ := h.2.2.1.1
  have hp := p_whyG h.2.2.1 hT i j k
  cases hg : gW T i j k with
  | true =>
    rw [hg] at hp
    obtain ⟨a, b, br, rfl, rfl, rfl, ha, hb, hbr⟩ := gW_of hT hg
    have x1 : CInv x (sI σ 7 x (nI 0)) := x0
    have h1 := h.sq (SQ.st7 (nI 0))
    have m1 : MInv m (sI σ 7 x (nI 0)) := h1.2.2.2.1
    have eT : zAI (sI σ 7 x (nI 0)) (m + 1) = T := h1.2.2.2.2.1
    have sp : SP (sI σ 7 x (nI 0)) (x + 10) (x + 17) (x + 18) t T B P O := h1.2.2.1.spN
    have hS1 : SV T (zAI (sI σ 7 x (nI 0)) (x + 17), zAI (sI σ 7 x (nI 0)) (x + 18)) := h.2.2.2.2.2.2.1.agr h1.2.2.2.2.2.2.2.1.symm
    have hn1 : NB x (sI σ 7 x (nI 0)) := by
      refine ⟨?_, ?_⟩
      · rw [r_II, if_neg (by omega)]; exact hn.1
      · rw [r_II, if_neg (by omega)]; exact hn.2
    obtain ⟨y, t1, t2, t3, t4, t5⟩ := h1.takes
    have hw := p_why sp hT hS1 ha (fun q hq => (hb q hq).1) hbr
    have hq := q_whyNot t3 (by rw [t4]; exact hT) (a := a) (b := b) (br := br) (by rw [t4]; exact ha) (by rw [t4]; exact fun q hq => (hb q hq).1) (by rw [t4]; exact hbr)
    rw [t4, NL_at, NL_lies, NL_I, ← why_now h1 hn1 y t2 ha (fun q hq => (hb q hq).1) hbr] at hq
    generalize sWhC T (zAI (sI σ 7 x (nI 0)) (x + 17)) (zAI (sI σ 7 x (nI 0)) (x + 18)) (zI (sI σ 7 x (nI 0)) 503 (x + 10)) (zI (sI σ 7 x (nI 0)) 504 (x + 10)) (zI (sI σ 7 x (nI 0)) 505 (x + 10)) a b br = v at hw hq
    refine Pr.of h.1 (v := nI 0) (τ1 := sI σ 7 x (nI 0)) (τ2 := NL m (sI σ 7 x (nI 0)) y) (R := nI v) ?_ (FX.refl _) ?_ t5
    · rw [hp, if_pos rfl]
      unfold f_X0_why_J40 f_X0_why_J67
      simp (disch := first | exact x0 | exact x1 | exact sp | omega) only [xv_0, bnd2_s, lI, xp_0, xi_0, r_II, and_self, if_true, if_false, nlt, Nat.lt_irrefl, xr_10_0, xr_400_9, pvc, hw, bind_s]
    · rw [q_whyG m1 (by rw [eT]; exact hT), eT, hg, if_pos rfl]
      unfold f_X9_gives
      simp (disch := first | exact m1 | exact t3 | omega) only [mvc, t1, hq, bnd2_s, bind_s, lI, mpI]
  | false =>
    rw [hg] at hp
    have x1 : CInv x (sI σ 7 x (nI 1)) := x0
    have m1 : MInv m (sI σ 7 x (nI 1)) := h.2.2.2.1
    have eT : zAI (sI σ 7 x (nI 1)) (m + 1) = T := h.2.2.2.2.1
    refine Pr.of h.1 (R := mI) (v := nI 1) (τ1 := sI σ 7 x (nI 1)) (τ2 := sI σ 7 x (nI 1)) ?_ (FX.refl _) ?_ (FR.refl _)
    · rw [hp]
      unfold f_X0_why_J40 f_X0_why_J67
      simp (disch := first | exact x0 | exact x1 | omega) [bnd2_s, lI, xp_0, xi_0, r_II, mI_eq, nlt]
    · rw [q_whyG m1 (by rw [eT]; exact hT), eT, hg]
      rfl
end
