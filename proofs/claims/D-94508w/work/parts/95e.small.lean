set_option maxRecDepth 100000
section
variable {x m t s a1 a2 : Nat} {σ τ : ZT} {own : Nat → Nat} {T : Nat → Int32} {B P O : Nat → Nat}
theorem same_pair {α : Type} (h : RZ x m own σ) {c d : ZT → Option (α × ZT)} {R : α} (hc : c σ = some (R, σ)) (hd : d σ = some (R, σ)) : PR x m own σ c d := ⟨R, σ, σ, own, hc, hd, h, by omega, by omega⟩
theorem xgL (h : CInv x σ) (f : Nat) : gL 0 f x σ = some (zL σ f x) := if_pos (xk_0 h)
theorem rz_status (h : RZ x m own σ) : PR x m own σ (f_X0_status x) (f_X9_status m) := by
  have e : zI σ 7 x = zI σ 902 m := h.2.2.2.2.2.1.1
  refine same_pair h (R := zI σ 902 m) ?_ ?_
  · unfold f_X0_status
    rw [xi_0 h.2.2.1, bind_s, e]
  · unfold f_X9_status
    rw [mgI h.2.2.2.1, bind_s]
theorem rz_top (h : RZ x m own σ) : PR x m own σ (f_X0_top x) (f_X9_top m) := by
  have e : zL σ 8 x = zL σ 903 m := h.2.2.2.2.2.1.2.1
  refine same_pair h (R := zL σ 903 m) ?_ ?_
  · unfold f_X0_top
    rw [xgL h.2.2.1, bind_s, e]
  · unfold f_X9_top
    rw [mgL h.2.2.2.1, bind_s]
theorem rz_bottom (h : RZ x m own σ) : PR x m own σ (f_X0_bottom x) (f_X9_bottom m) := by
  have e : zL σ 9 x = zL σ 904 m := h.2.2.2.2.2.1.2.2.1
  refine same_pair h (R := zL σ 904 m) ?_ ?_
  · unfold f_X0_bottom
    rw [xgL h.2.2.1, bind_s, e]
  · unfold f_X9_bottom
    rw [mgL h.2.2.2.1, bind_s]
theorem rz_fault (h : RZ x m own σ) (i : Int32) : PR x m own σ (f_X0_fault x i) (f_X9_fault m i) := by
  have e1 : zI σ 3 x = zI σ 916 m := h.2.2.2.2.2.1.2.2.2.1
  have e2 : zI σ 4 x = zI σ 917 m := h.2.2.2.2.2.1.2.2.2.2
  refine same_pair h (R := if i = 0 then zI σ 916 m else if i = 1 then zI σ 917 m else mI) ?_ ?_
  · unfold f_X0_fault f_X0_fault_J24
    rw [xi_0 h.2.2.1, xi_0 h.2.2.1, bind_s, bind_s, e1, e2]
    split
    · rfl
    · split <;> rfl
  · unfold f_X9_fault f_X9_fault_J24
    rw [mgI h.2.2.2.1, mgI h.2.2.2.1, bind_s, bind_s]
    split
    · rfl
    · split <;> rfl
theorem p_in05 (i : Int32) (σ : ZT) : f_X0_isIn (i.toInt64) (0 : Int64) (5 : Int64) σ = some (bI (!decide (i < nI 0) && !decide (nI 5 < i)), σ) := by
  rw [p_isIn]
  have e1 : decide (i.toInt64 < (0 : Int64)) = decide (i < nI 0) := by simp only [cmp64_lo]
  have e2 : decide ((5 : Int64) < i.toInt64) = decide (nI 5 < i) := by
    have := cmp64_hi i 5 (by decide)
    rw [show (5 : Int64) = (nI 5).toInt64 from by decide]
    simp only [this]
  rw [e1, e2]
theorem p_in09 (i : Int32) (σ : ZT) : f_X0_isIn (i.toInt64) (0 : Int64) (9 : Int64) σ = some (bI (!decide (i < nI 0) && !decide (nI 9 < i)), σ) := by
  rw [p_isIn]
  have e1 : decide (i.toInt64 < (0 : Int64)) = decide (i < nI 0) := by simp only [cmp64_lo]
  have e2 : decide ((9 : Int64) < i.toInt64) = decide (nI 9 < i) := by
    have := cmp64_hi i 9 (by decide)
    rw [show (9 : Int64) = (nI 9).toInt64 from by decide]
    simp only [this]
  rw [e1, e2]
theorem rz_ran (h : RZ x m own σ) (i : Int32) : PR x m own σ (f_X0_ran x i) (f_X9_ran m i) := by
  have x0 := h.2.2.1
  have hxm := h.1
  have hin := p_in05 i σ
  by_cases hok : i < nI 0 ∨ nI 5 < i
  · have hf : (!decide (i < nI 0) && !decide (nI 5 < i)) = false := by
      rcases hok with e | e <;> simp [e]
    rw [hf] at hin
    have x1 : CInv x (sI σ 7 x (nI 1)) := x0
    have m1 : MInv m (sI σ 7 x (nI 1)) := h.2.2.2.1
    refine no_pair h (R := mI) (v := nI 1) ?_ ?_
    · unfold f_X0_ran f_X0_ran_J30 f_X0_ran_J50
      simp (disch := first | exact x0 | exact x1 | omega) [hin, bI, bnd2_s, lI, xp_0, xi_0, r_II, mI_eq, nlt]
    · unfold f_X9_ran f_X9_ran_J9 f_X9_ran_J44 f_X9_refuse
      by_cases e : i < nI 0
      · simp (disch := first | exact m1 | omega) [mvc, bnd2_s, lI, mI_eq, mpI, e]
      · have e2 : nI 5 < i := hok.resolve_left e
        simp (disch := first | exact m1 | omega) [mvc, bnd2_s, lI, mI_eq, mpI, e, e2]
  · have e1 : ¬ i < nI 0 := fun e => hok (Or.inl e)
    have e2 : ¬ nI 5 < i := fun e => hok (Or.inr e)
    have hf : (!decide (i < nI 0) && !decide (nI 5 < i)) = true := by simp [e1, e2]
    rw [hf] at hin
    obtain ⟨k, hk, rfl⟩ := nI_of2 (M := nI 5) (n := 5) (by decide) e1 (Int32.not_lt.mp e2)
    rcases h.2.2.2.2.2.2.2.2.2.2.1 with ⟨l1, l2⟩ | ⟨l1, p, l2, l3, l4, l5, l6⟩
    · have x1 : CInv x (sI σ 7 x (nI 6)) := x0
      have m1 : MInv m (sI σ 7 x (nI 6)) := h.2.2.2.1
      have l2' : zI (sI σ 7 x (nI 6)) 952 m = mI := by rw [r_II, if_neg (by omega)]; exact l2
      refine no_pair h (R := mI) (v := nI 6) ?_ ?_
      · unfold f_X0_ran f_X0_ran_J30 f_X0_ran_J50
        simp (disch := first | exact x0 | exact x1 | omega) [hin, bI, bnd2_s, lI, n1n0, xp_0, xi_0, r_II, mI_eq, nlt, l1]
      · unfold f_X9_ran f_X9_ran_J44 f_X9_refuse
        simp (disch := first | exact m1 | omega) [mvc, bnd2_s, lI, mI_eq, mpI, mgI, e1, e2, l2']
    · have x1 : CInv x (sI σ 7 x (nI 0)) := x0
      have m1 : MInv m (sI σ 7 x (nI 0)) := h.2.2.2.1
      have l4' : zI (sI σ 7 x (nI 0)) 952 m = nI p := by rw [r_II, if_neg (by omega)]; exact l4
      have l5' := l5 k (by omega)
      refine no_pair h (R := zAI σ (m + 20) k) (v := nI 0) ?_ ?_
      · unfold f_X0_ran f_X0_ran_J30 f_X0_ran_J50
        simp (disch := first | exact x0 | exact x1 | omega) [hin, bI, bnd2_s, lI, n1n0, xp_0, xi_0, r_II, mI_eq, nlt, l1, xr_25_0, xl_54, zAI_sI, l5']
      · unfold f_X9_ran f_X9_ran_J44 f_X9_gives
        simp (disch := first | exact m1 | omega) [mvc, bnd2_s, lI, mI_eq, mpI, mgI, e1, e2, l4', nI_mI, mR950, ml_told0, zAI_sI]
theorem rz_ranAt (h : RZ x m own σ) (i : Int32) : PR x m own σ (f_X0_ranAt x i) (f_X9_ranAt m i) := by
  have x0 := h.2.2.1
  have hxm := h.1
  have hin := p_in03 i σ
  by_cases hok : i < nI 0 ∨ nI 3 < i
  · have hf : (!decide (i < nI 0) && !decide (nI 3 < i)) = false := by
      rcases hok with e | e <;> simp [e]
    rw [hf] at hin
    have x1 : CInv x (sI σ 7 x (nI 1)) := x0
    have m1 : MInv m (sI σ 7 x (nI 1)) := h.2.2.2.1
    refine no_pair h (R := mI) (v := nI 1) ?_ ?_
    · unfold f_X0_ranAt f_X0_ranAt_J38 f_X0_ranAt_J58
      simp (disch := first | exact x0 | exact x1 | omega) [hin, bI, bnd2_s, lI, xp_0, xi_0, r_II, mI_eq, nlt]
    · unfold f_X9_ranAt f_X9_ranAt_J9 f_X9_ranAt_J44 f_X9_refuse
      by_cases e : i < nI 0
      · simp (disch := first | exact m1 | omega) [mvc, bnd2_s, lI, mI_eq, mpI, e]
      · have e2 : nI 3 < i := hok.resolve_left e
        have e3 : ¬ i < nI 4 := by
          intro e4
          have a1 := Int32.lt_iff_toInt_lt.mp e2
          have a2 := Int32.lt_iff_toInt_lt.mp e4
          rw [nI_toInt (by decide)] at a1 a2
          omega
        simp (disch := first | exact m1 | omega) [mvc, bnd2_s, lI, mI_eq, mpI, e, e3]
  · have e1 : ¬ i < nI 0 := fun e => hok (Or.inl e)
    have e2 : ¬ nI 3 < i := fun e => hok (Or.inr e)
    have hf : (!decide (i < nI 0) && !decide (nI 3 < i)) = true := by simp [e1, e2]
    rw [hf] at hin
    obtain ⟨k, hk, rfl⟩ := nI_of2 (M := nI 3) (n := 3) (by decide) e1 (Int32.not_lt.mp e2)
    have no6 : (f_X0_ranAt x (nI k) σ = some (mI, sI σ 7 x (nI 6))) → ¬ nI k < zI σ 952 m → PR x m own σ (f_X0_ranAt x (nI k)) (f_X9_ranAt m (nI k)) := by
      intro hc hlt
      have m1 : MInv m (sI σ 7 x (nI 6)) := h.2.2.2.1
      have hlt' : ¬ nI k < zI (sI σ 7 x (nI 6)) 952 m := by rw [r_II, if_neg (by omega)]; exact hlt
      refine no_pair h (R := mI) (v := nI 6) hc ?_
      unfold f_X9_ranAt f_X9_ranAt_J44 f_X9_refuse
      have k4 : k < 4 := by omega
      simp (disch := first | exact m1 | omega) only [mvc, bnd2_s, bind_s, lI, mI_eq, mpI, mgI, e1, nlt, k4, if_true, if_false, hlt']
    have x6 : CInv x (sI σ 7 x (nI 6)) := x0
    rcases h.2.2.2.2.2.2.2.2.2.2.1 with ⟨l1, l2⟩ | ⟨l1, p, l2, l3, l4, l5, l6⟩
    · refine no6 ?_ (by rw [l2]; exact fun hh => by rw [nltm (by omega)] at hh; exact hh)
      unfold f_X0_ranAt f_X0_ranAt_J32 f_X0_ranAt_J38 f_X0_ranAt_J58
      simp (disch := first | exact x0 | exact x6 | omega) [hin, bI, bnd2_s, lI, n1n0, xp_0, xi_0, r_II, mI_eq, nlt, l1]
    · by_cases hkp : k < p
      · have x1 : CInv x (sI σ 7 x (nI 0)) := x0
        have m1 : MInv m (sI σ 7 x (nI 0)) := h.2.2.2.1
        have l4' : zI (sI σ 7 x (nI 0)) 952 m = nI p := by rw [r_II, if_neg (by omega)]; exact l4
        have l6' := l6 k hkp
        have k4 : k < 4 := by omega
        refine no_pair h (R := zAI σ (m + 21) k) (v := nI 0) ?_ ?_
        · unfold f_X0_ranAt f_X0_ranAt_J38 f_X0_ranAt_J58
          simp (disch := first | exact x0 | exact x1 | omega) [hin, bI, bnd2_s, lI, n1n0, xp_0, xi_0, r_II, mI_eq, nlt, l1, l3, hkp, xr_26_0, xl_55, zAI_sI, l6']
        · unfold f_X9_ranAt f_X9_ranAt_J44 f_X9_gives
          simp (disch := first | exact m1 | omega) [mvc, bnd2_s, lI, mI_eq, mpI, mgI, nlt, l4', hkp, k4, mR951, ml_endAt, zAI_sI]
      · refine no6 ?_ (by rw [l4, nlt (by omega) (by omega)]; exact hkp)
        unfold f_X0_ranAt f_X0_ranAt_J32 f_X0_ranAt_J38 f_X0_ranAt_J58
        simp (disch := first | exact x0 | exact x6 | omega) [hin, bI, bnd2_s, lI, n1n0, xp_0, xi_0, r_II, mI_eq, nlt, l1, l3, hkp]
/-! what is told of a bridge -/
theorem pr_bridge (h : SB x m σ t T B P O) (i j : Int32) : Pr x m σ (f_X0_bridge x i j) (f_X9_bridge m i j) := by
  have hT := h.2.2.2.2.2.1
  have n8 := hT.2.2.1
  have x0 : CInv x σ := h.2.2.1.1
  have hpi := p_isBridge h.2.2.1 hT i
  have hin := p_in09 j σ
  by_cases hok : ok i (fn T 1) = true ∧ ¬ j < nI 0 ∧ ¬ nI 9 < j
  · obtain ⟨o1, j1, j2⟩ := hok
    have hf : (!decide (j < nI 0) && !decide (nI 9 < j)) = true := by simp [j1, j2]
    rw [hf] at hin
    rw [o1] at hpi
    obtain ⟨b, hbb, rfl⟩ := ok_of (by omega) o1
    obtain ⟨k, hk, rfl⟩ := nI_of2 (M := nI 9) (n := 9) (by decide) j1 (Int32.not_lt.mp j2)
    have x1 : CInv x (sI σ 7 x (nI 0)) := x0
    have h1 := h.sq (SQ.st7 (nI 0))
    have m1 : MInv m (sI σ 7 x (nI 0)) := h1.2.2.2.1
    have eT : zAI (sI σ 7 x (nI 0)) (m + 1) = T := h1.2.2.2.2.1
    have sp : SP (sI σ 7 x (nI 0)) (x + 10) (x + 17) (x + 18) t T B P O := h1.2.2.1.spN
    have hck := q_isBridge m1 (by rw [eT]; exact hT) (nI b)
    rw [eT, o1] at hck
    have hpl := p_pull sp hT hbb
    have htk := q_takesOf m1 (by rw [eT]; exact hT) (b := b) (by rw [eT]; exact hbb)
    rw [eT] at htk
    have e1 := tb1101 sp hbb
    have e2 := tb1102 sp hbb
    have e3 := tb1103 sp hbb
    have e4 := tb1104 sp hbb
    have e5 := tb1105 sp hbb
    have e6 := tb1106 sp hbb
    have e7 := tb1107 sp hbb
    have e8 := tb1108 sp hbb
    have e9 := tb1109 sp hbb
    have hvb := fun (α : Type) (y : Option α) => tvb sp hbb y
    refine Pr.of h.1 (R := if k = 9 then sTake T b else T (14 + 9 * b + k)) (v := nI 0) (τ1 := sI σ 7 x (nI 0)) (τ2 := sI σ 7 x (nI 0)) ?_ (FX.refl _) ?_ (FR.refl _)
    · have hc : f_X0_bridge x (nI b) (nI k) σ = f_X0_bridge_J26 x (nI b) (nI k) (nI 0) x σ := by
        unfold f_X0_bridge
        simp (disch := first | exact x0 | omega) [xv_0, hpi, hin, bI, bnd2_s, lI, n1n0]
      rw [hc]
      unfold f_X0_bridge_J26
      have hk10 : k = 0 ∨ k = 1 ∨ k = 2 ∨ k = 3 ∨ k = 4 ∨ k = 5 ∨ k = 6 ∨ k = 7 ∨ k = 8 ∨ k = 9 := by omega
      rcases hk10 with rfl | rfl | rfl | rfl | rfl | rfl | rfl | rfl | rfl | rfl <;> simp (disch := first | exact x0 | exact x1 | exact sp | omega) [lI, xp_0, xi_0, xv_0, r_II, neq, nlt, p_town h1.2.2.1, bnd2_s, t606, tlb, e1, e2, e3, e4, e5, e6, e7, e8, e9, tvb, hpl]
    · unfold f_X9_bridge f_X9_bridge_J39 f_X9_bridge_J50 f_X9_gives
      by_cases k9 : k = 9
      · subst k9
        simp (disch := first | exact m1 | omega) [mvc, hck, bI, bnd2_s, lI, n1n0, nlt, htk, mpI]
      · have hob : f_X9_ofBridge m (nI b) (nI k) (sI σ 7 x (nI 0)) = some (T (14 + 9 * b + k), sI σ 7 x (nI 0)) := by
          unfold f_X9_ofBridge
          simp (disch := first | exact m1 | omega) [mR900, ml_at, lI, nI_add, pk_mul, eT]
        have k9' : ¬ 9 < k := by omega
        simp (disch := first | exact m1 | omega) [mvc, hck, bI, bnd2_s, lI, n1n0, nlt, neq, hob, mpI, k9, k9']
  · have x1 : CInv x (sI σ 7 x (nI 1)) := x0
    have m1 : MInv m (sI σ 7 x (nI 1)) := h.2.2.2.1
    have eT : zAI (sI σ 7 x (nI 1)) (m + 1) = T := h.2.2.2.2.1
    have hck := q_isBridge m1 (by rw [eT]; exact hT) i
    rw [eT] at hck
    refine Pr.of h.1 (R := mI) (v := nI 1) (τ1 := sI σ 7 x (nI 1)) (τ2 := sI σ 7 x (nI 1)) ?_ (FX.refl _) ?_ (FR.refl _)
    · unfold f_X0_bridge f_X0_bridge_J25 f_X0_bridge_J26
      cases o1 : ok i (fn T 1) with
      | false =>
        rw [o1] at hpi
        simp (disch := first | exact x0 | exact x1 | omega) [xv_0, hpi, bI, bnd2_s, lI, xp_0, xi_0, r_II, mI_eq, nlt]
      | true =>
        have hf : (!decide (j < nI 0) && !decide (nI 9 < j)) = false := by
          by_cases z1 : j < nI 0
          · simp [z1]
          · by_cases z2 : nI 9 < j
            · simp [z2]
            · exact absurd ⟨o1, z1, z2⟩ hok
        rw [o1] at hpi
        rw [hf] at hin
        simp (disch := first | exact x0 | exact x1 | omega) [xv_0, hpi, hin, bI, bnd2_s, lI, n1n0, xp_0, xi_0, r_II, mI_eq, nlt]
    · unfold f_X9_bridge f_X9_bridge_J45 f_X9_bridge_J50 f_X9_refuse
      cases o1 : ok i (fn T 1) with
      | false =>
        rw [o1] at hck
        simp (disch := first | exact m1 | omega) [mvc, hck, bI, bnd2_s, lI, mI_eq, mpI]
      | true =>
        rw [o1] at hck
        by_cases z1 : j < nI 0
        · simp (disch := first | exact m1 | omega) [mvc, hck, bI, bnd2_s, lI, mI_eq, mpI, n1n0, z1]
        · have z2 : nI 9 < j := by
            by_cases z2 : nI 9 < j
            · exact z2
            · exact absurd ⟨o1, z1, z2⟩ hok
          simp (disch := first | exact m1 | omega) [mvc, hck, bI, bnd2_s, lI, mI_eq, mpI, n1n0, z1, z2]
/-! all start over -/
def strt (T : Nat → Int32) : St := (fun p => T (86 + 5 * p + 1), fun l => T (106 + 2 * l + 1))
theorem sR_self (f a : Nat) : sR σ f a (zR σ f a) = σ := by
  unfold sR
  have : z2 (zR σ) f a (zR σ f a) = zR σ := by
    funext g b
    unfold z2
    by_cases e : g = f ∧ b = a
    · rw [if_pos e, e.1, e.2]
    · rw [if_neg e]
  rw [this]
  rfl
theorem p_spotBegin (sp : SP (sR σ 500 s (some t)) s a1 a2 t T B P O) (hs : zK σ s = 6) (hT : TW T) : f_X5_begin s t σ = some (CN a1 a2 (sR σ 500 s (some t)) (mix (fn T 2) (strt T).1 (zAI σ a1), mix (fn T 3) (strt T).2 (zAI σ a2))) := by
  have n2 := hT.2.2.2.1
  have n3 := hT.2.2.2.2.1
  have h2 := hT.1 2 (by decide)
  have h3 := hT.1 3 (by decide)
  have hne : a1 ≠ a2 := sp.1.2.2.2.2.2.2.1
  have hpr : pR 5 500 s (some t) σ = some (sR σ 500 s (some t)) := if_pos hs
  have ez : zAI σ = zAI (sR σ 500 s (some t)) := rfl
  rw [ez]
  unfold f_X5_begin
  rw [hpr, bind_s]
  generalize sR σ 500 s (some t) = σ at *
  have hup : ∀ (k : Nat) (f g : Nat → Int32), up (mix k f g) k (f k) = mix (k + 1) f g := by
    intro k f g
    funext i
    unfold up mix
    by_cases e1 : i = k
    · subst e1; simp
    · by_cases e2 : i < k
      · simp [e1, e2, show i < k + 1 by omega]
      · simp [e1, e2, show ¬ i < k + 1 by omega]
  have a : loopC (fun y : (Int32 × ZT) => f_X5_begin_L7 s t y.1 y.2) (nI 0, σ) = some (sAIr σ a1 (mix (fn T 2) (strt T).1 (zAI σ a1))) := by
    have key := loop_go (body := fun y : (Int32 × ZT) => f_X5_begin_L7 s t y.1 y.2) (fun k => (nI k, sAIr σ a1 (mix k (strt T).1 (zAI σ a1)))) (fn T 2) (sAIr σ a1 (mix (fn T 2) (strt T).1 (zAI σ a1))) (fun k hk => ?_) ?_
    · have e0 : mix 0 (strt T).1 (zAI σ a1) = zAI σ a1 := by funext i; unfold mix; simp
      simp only [e0, sAIr_self] at key
      exact key
    · have sp2 := sp.s1 (mix k (strt T).1 (zAI σ a1))
      have es : (strt T).1 k = T (86 + 5 * k + 1) := rfl
      rw [← hup, es]
      generalize mix k (strt T).1 (zAI σ a1) = r at sp2 ⊢
      unfold f_X5_begin_L7
      simp (disch := first | exact sp2 | omega) [t602, h2, p501, t607, tlp, tp1202, ps1, lI, mI_eq, nI_add, pk_mul, nlt, nle, neq, nI_mI, mI_nI, nltm, mltn, nsub, zremN, zdivN, hk, sAI_r, sAIr_sAIr, zAIr_at]
    · have sp2 := sp.s1 (mix (fn T 2) (strt T).1 (zAI σ a1))
      unfold f_X5_begin_L7
      simp (disch := first | exact sp2 | omega) [t602, h2, lI, mI_eq, nI_add, pk_mul, nlt, nle, neq, nI_mI, mI_nI, nltm, mltn, nsub, zremN, zdivN]
  have b : ∀ σ1, SP σ1 s a1 a2 t T B P O → loopC (fun y : (Int32 × ZT) => f_X5_begin_L38 s t y.1 y.2) (nI 0, σ1) = some (sAIr σ1 a2 (mix (fn T 3) (strt T).2 (zAI σ1 a2))) := by
    intro σ1 sp
    have key := loop_go (body := fun y : (Int32 × ZT) => f_X5_begin_L38 s t y.1 y.2) (fun k => (nI k, sAIr σ1 a2 (mix k (strt T).2 (zAI σ1 a2)))) (fn T 3) (sAIr σ1 a2 (mix (fn T 3) (strt T).2 (zAI σ1 a2))) (fun k hk => ?_) ?_
    · have e0 : mix 0 (strt T).2 (zAI σ1 a2) = zAI σ1 a2 := by funext i; unfold mix; simp
      simp only [e0, sAIr_self] at key
      exact key
    · have sp2 := sp.s2 (mix k (strt T).2 (zAI σ1 a2))
      have es : (strt T).2 k = T (106 + 2 * k + 1) := rfl
      rw [← hup, es]
      generalize mix k (strt T).2 (zAI σ1 a2) = r at sp2 ⊢
      unfold f_X5_begin_L38
      simp (disch := first | exact sp2 | omega) [t603, h3, p502, t608, tlo, to1302, ps2, lI, mI_eq, nI_add, pk_mul, nlt, nle, neq, nI_mI, mI_nI, nltm, mltn, nsub, zremN, zdivN, hk, sAI_r, sAIr_sAIr, zAIr_at]
    · have sp2 := sp.s2 (mix (fn T 3) (strt T).2 (zAI σ1 a2))
      unfold f_X5_begin_L38
      simp (disch := first | exact sp2 | omega) [t603, h3, lI, mI_eq, nI_add, pk_mul, nlt, nle, neq, nI_mI, mI_nI, nltm, mltn, nsub, zremN, zdivN]
  have b1 := b _ (sp.s1 (mix (fn T 2) (strt T).1 (zAI σ a1)))
  rw [zAIr_ne _ (Ne.symm hne)] at b1
  simp only [lI, a, bind_s, b1]
  unfold CN
  rw [sAIr_comm hne]
theorem q_startsOver (h : MInv m σ) : f_X9_startsOver m σ = some (sAIr σ (m + 1) (stay (zAI σ (m + 1)) (strt (zAI σ (m + 1))))) := by
  have a1 : loopC (fun s : (Int32 × ZT) => f_X9_startsOver_L2 m s.1 s.2) (nI 0, σ) = some (sAIr σ (m + 1) (up (up (up (up (zAI σ (m + 1)) 110 ((strt (zAI σ (m + 1))).1 0)) 111 ((strt (zAI σ (m + 1))).1 1)) 112 ((strt (zAI σ (m + 1))).1 2)) 113 ((strt (zAI σ (m + 1))).1 3))) := by
    have hlow : ∀ k i, i < 110 → foldN (fun j T => up T (110 + j) ((strt (zAI σ (m + 1))).1 j)) k (zAI σ (m + 1)) i = zAI σ (m + 1) i := by
      intro k i hi
      induction k with
      | zero => rfl
      | succ k ih =>
        show up _ (110 + k) _ i = _
        unfold up
        rw [if_neg (by omega)]
        exact ih
    have key := loop_go (body := fun s : (Int32 × ZT) => f_X9_startsOver_L2 m s.1 s.2) (fun k => (nI k, sAIr σ (m + 1) (foldN (fun j T => up T (110 + j) ((strt (zAI σ (m + 1))).1 j)) k (zAI σ (m + 1))))) 4 (sAIr σ (m + 1) (foldN (fun j T => up T (110 + j) ((strt (zAI σ (m + 1))).1 j)) 4 (zAI σ (m + 1)))) (fun k hk => ?_) ?_
    · simp only [foldN, sAIr_self] at key
      exact key
    · have hl := hlow k (86 + 5 * k + 1) (by omega)
      unfold f_X9_startsOver_L2 f_X9_ofPerson
      simp (disch := first | exact h | omega | (simp only [Mi_sI, Mi_sL, Mi_sAI, Mi_sAL, Mi_sAIr, Mi_sALr]; exact h)) [mR900, mR901, mR905, mR906, mR907, mR908, mR909, mR921, mR924, mR925, mR929, mR930, mR931, mR932, mR934, mR935, mR936, mR940, mR949, mR950, mR951, ml_at, ml_names, ml_sort, ml_trayMany, ml_trays, ml_tape, ml_text, ml_opened, ml_now, ml_lies, ml_moveKind, ml_moveOne, ml_moveTwo, ml_moveThird, ml_far, ml_come, ml_good, ml_way, ml_rounds, ml_told0, ml_endAt, ms_at, ms_names, ms_sort, ms_trayMany, ms_trays, ms_tape, ms_text, ms_opened, ms_now, ms_lies, ms_moveKind, ms_moveOne, ms_moveTwo, ms_moveThird, ms_far, ms_come, ms_good, ms_way, ms_rounds, ms_told0, ms_endAt, mgI, mgL, mpI, mpL, mpZ, mvc, bnd2_s, bind_s, rz, lI, mI_eq, nI_add, pk_mul, nlt, nle, neq, nI_mI, mI_nI, nltm, mltn, nsub, zremN, zdivN, hk, zAIr_at, sAI_r, sAIr_sAIr, foldN, hl, strt]
      simp only [strt] at hl
      rw [hl]
    · unfold f_X9_startsOver_L2
      simp (disch := first | exact h | omega | (simp only [Mi_sI, Mi_sL, Mi_sAI, Mi_sAL, Mi_sAIr, Mi_sALr]; exact h)) [mR900, mR901, mR905, mR906, mR907, mR908, mR909, mR921, mR924, mR925, mR929, mR930, mR931, mR932, mR934, mR935, mR936, mR940, mR949, mR950, mR951, ml_at, ml_names, ml_sort, ml_trayMany, ml_trays, ml_tape, ml_text, ml_opened, ml_now, ml_lies, ml_moveKind, ml_moveOne, ml_moveTwo, ml_moveThird, ml_far, ml_come, ml_good, ml_way, ml_rounds, ml_told0, ml_endAt, ms_at, ms_names, ms_sort, ms_trayMany, ms_trays, ms_tape, ms_text, ms_opened, ms_now, ms_lies, ms_moveKind, ms_moveOne, ms_moveTwo, ms_moveThird, ms_far, ms_come, ms_good, ms_way, ms_rounds, ms_told0, ms_endAt, mgI, mgL, mpI, mpL, mpZ, mvc, bnd2_s, bind_s, rz, lI, mI_eq, nI_add, pk_mul, nlt, nle, neq, nI_mI, mI_nI, nltm, mltn, nsub, zremN, zdivN]
  have a2 : ∀ (τ : ZT) (T0 : Nat → Int32), MInv m τ → (∀ i, i < 110 → zAI τ (m + 1) i = T0 i) → loopC (fun s : (Int32 × ZT) => f_X9_startsOver_L30 m s.1 s.2) (nI 0, τ) = some (sAIr τ (m + 1) (up (up (zAI τ (m + 1)) 114 ((strt T0).2 0)) 115 ((strt T0).2 1))) := by
    intro τ T0 h hT0
    have hlow : ∀ k i, i < 110 → foldN (fun j T => up T (114 + j) ((strt T0).2 j)) k (zAI τ (m + 1)) i = T0 i := by
      intro k i hi
      induction k with
      | zero => exact hT0 i hi
      | succ k ih =>
        show up _ (114 + k) _ i = _
        unfold up
        rw [if_neg (by omega)]
        exact ih
    have key := loop_go (body := fun s : (Int32 × ZT) => f_X9_startsOver_L30 m s.1 s.2) (fun k => (nI k, sAIr τ (m + 1) (foldN (fun j T => up T (114 + j) ((strt T0).2 j)) k (zAI τ (m + 1))))) 2 (sAIr τ (m + 1) (foldN (fun j T => up T (114 + j) ((strt T0).2 j)) 2 (zAI τ (m + 1)))) (fun k hk => ?_) ?_
    · simp only [foldN, sAIr_self] at key
      exact key
    · have hl := hlow k (106 + 2 * k + 1) (by omega)
      unfold f_X9_startsOver_L30
      simp (disch := first | exact h | omega | (simp only [Mi_sI, Mi_sL, Mi_sAI, Mi_sAL, Mi_sAIr, Mi_sALr]; exact h)) [mR900, mR901, mR905, mR906, mR907, mR908, mR909, mR921, mR924, mR925, mR929, mR930, mR931, mR932, mR934, mR935, mR936, mR940, mR949, mR950, mR951, ml_at, ml_names, ml_sort, ml_trayMany, ml_trays, ml_tape, ml_text, ml_opened, ml_now, ml_lies, ml_moveKind, ml_moveOne, ml_moveTwo, ml_moveThird, ml_far, ml_come, ml_good, ml_way, ml_rounds, ml_told0, ml_endAt, ms_at, ms_names, ms_sort, ms_trayMany, ms_trays, ms_tape, ms_text, ms_opened, ms_now, ms_lies, ms_moveKind, ms_moveOne, ms_moveTwo, ms_moveThird, ms_far, ms_come, ms_good, ms_way, ms_rounds, ms_told0, ms_endAt, mgI, mgL, mpI, mpL, mpZ, mvc, bnd2_s, bind_s, rz, lI, mI_eq, nI_add, pk_mul, nlt, nle, neq, nI_mI, mI_nI, nltm, mltn, nsub, zremN, zdivN, hk, zAIr_at, sAI_r, sAIr_sAIr, foldN, hl, strt]
      simp only [strt] at hl
      rw [hl]
    · unfold f_X9_startsOver_L30
      simp (disch := first | exact h | omega | (simp only [Mi_sI, Mi_sL, Mi_sAI, Mi_sAL, Mi_sAIr, Mi_sALr]; exact h)) [mR900, mR901, mR905, mR906, mR907, mR908, mR909, mR921, mR924, mR925, mR929, mR930, mR931, mR932, mR934, mR935, mR936, mR940, mR949, mR950, mR951, ml_at, ml_names, ml_sort, ml_trayMany, ml_trays, ml_tape, ml_text, ml_opened, ml_now, ml_lies, ml_moveKind, ml_moveOne, ml_moveTwo, ml_moveThird, ml_far, ml_come, ml_good, ml_way, ml_rounds, ml_told0, ml_endAt, ms_at, ms_names, ms_sort, ms_trayMany, ms_trays, ms_tape, ms_text, ms_opened, ms_now, ms_lies, ms_moveKind, ms_moveOne, ms_moveTwo, ms_moveThird, ms_far, ms_come, ms_good, ms_way, ms_rounds, ms_told0, ms_endAt, mgI, mgL, mpI, mpL, mpZ, mvc, bnd2_s, bind_s, rz, lI, mI_eq, nI_add, pk_mul, nlt, nle, neq, nI_mI, mI_nI, nltm, mltn, nsub, zremN, zdivN]
  rw [up4] at a1
  have h2 : MInv m (sAIr σ (m + 1) (fun i => if 110 ≤ i ∧ i < 114 then (strt (zAI σ (m + 1))).1 (i - 110) else zAI σ (m + 1) i)) := h
  have b2 := a2 _ (zAI σ (m + 1)) h2 (fun i hi => by rw [zAIr_at]; exact if_neg (by omega))
  rw [zAIr_at, up6, sAIr_sAIr] at b2
  unfold f_X9_startsOver
  simp only [lI, a1, bind_s, b2]
theorem strt_SV (hT : TW T) : SV T (strt T) := by
  refine ⟨fun p hp => ?_, fun l hl => ?_, fun l l' hl hl' _ _ => ?_⟩
  · have := hT.2.2.2.2.2.2.1 p hp
    exact ⟨this.2.2.1, this.2.2.2.1⟩
  · have := hT.2.2.2.2.2.2.2 l hl
    exact ⟨this.2.2.1, Or.inl this.2.2.2⟩
  · have := hT.2.2.2.2.2.2.2 l hl
    have h6 := hT.2.1
    have h7 : fn (strt T).2 l < fn T 0 := this.2.2.2
    omega
theorem mix_strt (hT : TW T) (f g : Nat → Int32) : Agr T (mix (fn T 2) (strt T).1 f, mix (fn T 3) (strt T).2 g) (strt T) := by
  refine ⟨fun p hp => ?_, fun l hl => ?_⟩
  · show mix (fn T 2) (strt T).1 f p = _
    unfold mix
    rw [if_pos hp]
  · show mix (fn T 3) (strt T).2 g l = _
    unfold mix
    rw [if_pos hl]
theorem beg_fin (h : RZ x m own σ) {τ1 : ZT} {r : St} (k1 : KX x m σ τ1) (z7 : zI τ1 7 x = nI 0) (z17 : zAI τ1 (x + 17) = r.1) (z18 : zAI τ1 (x + 18) = r.2) (zm : zAI τ1 (m + 1) = zAI σ (m + 1)) (hag : Agr (zAI σ (m + 1)) r (strt (zAI σ (m + 1)))) {c : ZT → Option (Int32 × ZT)} (hc : c σ = some (nI 1, τ1)) : PR x m own σ c (f_X9_begin m) := by
  have hxm := h.1
  have hT : TW (zAI σ (m + 1)) := by
    obtain ⟨t, B, P, O, hb, -⟩ := h.sb
    exact hb.2.2.2.2.2.1
  have m1 := k1.minv h.2.2.2.1
  have hso := q_startsOver m1
  rw [zm] at hso
  have m2 : MInv m (sAIr τ1 (m + 1) (stay (zAI σ (m + 1)) (strt (zAI σ (m + 1))))) := m1
  have hq := q_is m2 (nI 0)
  rw [if_pos rfl] at hq
  have hd : f_X9_begin m τ1 = some (nI 1, sI (sAIr τ1 (m + 1) (stay (zAI σ (m + 1)) (strt (zAI σ (m + 1))))) 902 m (nI 0)) := by
    unfold f_X9_begin
    simp (disch := first | exact m1 | exact m2 | omega) [mvc, lI, hso, hq, bnd2_s, rz]
  have k2 : KX x m τ1 (sI (sAIr τ1 (m + 1) (stay (zAI σ (m + 1)) (strt (zAI σ (m + 1))))) 902 m (nI 0)) := (KX.air (by omega) _).trans (KX.st902 _)
  have k3 := k1.trans k2
  refine ⟨nI 1, _, _, own, hc, hd, h.act2 k3 (r := strt (zAI σ (m + 1))) ?_ ?_ (strt_SV hT) ?_, by rw [k3.2.2.2.2.2.2.1.2.1]; omega, by rw [k3.2.2.2.2.2.2.1.2.2]; omega⟩
  · rw [r_II, if_neg (by omega), r_II, if_pos ⟨rfl, rfl⟩, zI_sAIr]
    exact z7
  · rw [zAI_sI, zAIr_at]
  · rw [zAI_sI, zAIr_ne _ (by omega), zAIr_ne _ (by omega), z17, z18]
    exact hag
theorem p_beginX (hb : SB x m σ t T B P O) : ∃ r, f_X0_begin x σ = some (nI 1, CN (x + 17) (x + 18) (sI σ 7 x (nI 0)) r) ∧ Agr T r (strt T) := by
  have hT := hb.2.2.2.2.2.1
  have x0 : CInv x σ := hb.2.2.1.1
  have x1 : CInv x (sI σ 7 x (nI 0)) := x0
  have h1 := hb.sq (SQ.st7 (nI 0))
  have sp : SP (sI σ 7 x (nI 0)) (x + 10) (x + 17) (x + 18) t T B P O := h1.2.2.1.spN
  have e500 : sR (sI σ 7 x (nI 0)) 500 (x + 10) (some t) = sI σ 7 x (nI 0) := by
    have := sR_self (σ := sI σ 7 x (nI 0)) 500 (x + 10)
    rw [h1.2.2.1.2.1] at this
    exact this
  have hbg := p_spotBegin (σ := sI σ 7 x (nI 0)) (by rw [e500]; exact sp) (xk_10 x1) hT
  rw [e500] at hbg
  refine ⟨_, ?_, mix_strt hT (zAI (sI σ 7 x (nI 0)) (x + 17)) (zAI (sI σ 7 x (nI 0)) (x + 18))⟩
  have hpt := p_town h1.2.2.1
  generalize (mix (fn T 2) (strt T).1 (zAI (sI σ 7 x (nI 0)) (x + 17)), mix (fn T 3) (strt T).2 (zAI (sI σ 7 x (nI 0)) (x + 18))) = r at hbg ⊢
  unfold f_X0_begin
  rw [lI, xp_0 x0, bind_s, xr_10_0 x1, bind_s, xr_400_9 x1, bind_s, xv_0 x1, hpt, bnd2_s, xv_10 x1, hbg, bind_s]
  rfl
theorem rz_begin (h : RZ x m own σ) : PR x m own σ (f_X0_begin x) (f_X9_begin m) := by
  obtain ⟨t, B, P, O, hb, -⟩ := h.sb
  have hxm := h.1
  obtain ⟨r, hc, hag⟩ := p_beginX hb
  exact beg_fin h ((KX.st7 _).trans (KX.cn r)) (by
    show zI (sI σ 7 x (nI 0)) 7 x = nI 0
    rw [r_II, if_pos ⟨rfl, rfl⟩]) (CN_1 r) (CN_2 (by omega) r) (by rw [CN_ne _ (by omega) (by omega)]; rfl) hag hc
end
