set_option maxRecDepth 100000
section
variable {x t : Nat} {σ : ZT} {T : Nat → Int32} {B P O : Nat → Nat}
/-- a turn is gone to while all before it were within -/
def Tn (ms : Ms) (c0 k : Nat) : Prop := k ≤ (bfsK ms (b0 c0) k).2.length ∧ ∀ j, j < k → j < (bfsK ms (b0 c0) j).2.length
theorem Tn.zero (ms : Ms) (c0 : Nat) : Tn ms c0 0 := ⟨Nat.zero_le _, fun j hj => absurd hj (Nat.not_lt_zero j)⟩
theorem Tn.succ {V : Nat → Prop} {N : Nat} {ms : Ms} {c0 k : Nat} (hm : Cl V N ms) (hV : V c0 ∧ c0 < N) (h : Tn ms c0 k) (hlt : k < (bfsK ms (b0 c0) k).2.length) : Tn ms c0 (k + 1) := by
  refine ⟨?_, fun j hj => ?_⟩
  · obtain ⟨⟨l, hl'⟩, -⟩ := (bfsK_inv hm hV k).2
    rw [hl', List.length_append]
    omega
  · by_cases ej : j = k
    · subst ej; exact hlt
    · exact h.2 j (by omega)
theorem Tn.be {ms : Ms} {c0 k : Nat} (h : Tn ms c0 k) (hlt : ¬ k < (bfsK ms (b0 c0) k).2.length) : BE ms c0 k := ⟨by have := h.1; omega, h.2⟩
theorem bfsK_succ {ms : Ms} {s0 : Bf} {k c : Nat} (h : (bfsK ms s0 k).2[k]? = some c) : bfsK ms s0 (k + 1) = expA ms c (dA (bfsK ms s0 k) c + 1) (bfsK ms s0 k) := by
  show (match (bfsK ms s0 k).2[k]? with | none => bfsK ms s0 k | some c => expA ms c (dA (bfsK ms s0 k) c + 1) (bfsK ms s0 k)) = _
  rw [h]
theorem p_findAll (h : HC x σ t T B P O) (hT : TW T) (hS : SV T (nowS T)) (hN : Agr T (zAI σ (x + 17), zAI σ (x + 18)) (nowS T)) : ∃ τ K, f_X0_findAll x σ = some τ ∧ BE (msM T (cOt x σ)) (enc T (nowS T)) K ∧ CX x σ t T (bfsK (msM T (cOt x σ)) (b0 (enc T (nowS T))) K) τ ∧ (mvs T).length ≤ 92 := by
  obtain ⟨τ0, a0, C0, hl⟩ := p_beginAll h hT hS hN
  have hV := VM_enc hT hS
  have hc : CInv x σ := h.1
  generalize enc T (nowS T) = c0 at *
  have hm := Cl_M hT (cOt x σ)
  have key := loop_inv (body := fun s : (Int32 × ZT) => f_X0_findAll_L6 x s.1 s.2) (fun s => ∃ k, s.1 = nI k ∧ Tn (msM T (cOt x σ)) c0 k ∧ CX x σ t T (bfsK (msM T (cOt x σ)) (b0 c0) k) s.2) (fun s => 129600 - s.1.toNatClampNeg) (fun τ => ∃ K, BE (msM T (cOt x σ)) c0 K ∧ CX x σ t T (bfsK (msM T (cOt x σ)) (b0 c0) K) τ) (fun s hI => ?_) (nI 0, τ0) ⟨0, rfl, Tn.zero _ _, C0⟩
  · obtain ⟨τ', g1, K, g2, g3⟩ := key
    refine ⟨τ', K, ?_, g2, g3, hl⟩
    unfold f_X0_findAll
    simp only [xv_0 hc, a0, bind_s, lI, g1]
  · obtain ⟨i, τ⟩ := s
    obtain ⟨k, hk, hTn, hC⟩ := hI
    have hk : i = nI k := hk
    subst hk
    have hC : CX x σ t T (bfsK (msM T (cOt x σ)) (b0 c0) k) τ := hC
    obtain ⟨H1, o1⟩ := hC.tt h
    have H1c : CInv x τ := H1.1
    have hB := (bfsK_inv hm hV k).1
    have hBl := hB.len
    have r18 := hC.2.2.2.1
    show ∃ y, f_X0_findAll_L6 x (nI k) τ = some y ∧ _
    unfold f_X0_findAll_L6
    by_cases hlt : k < (bfsK (msM T (cOt x σ)) (b0 c0) k).2.length
    · obtain ⟨c, hcc⟩ : ∃ c, (bfsK (msM T (cOt x σ)) (b0 c0) k).2[k]? = some c := ⟨_, List.getElem?_eq_getElem hlt⟩
      obtain ⟨τ1, b1, b2⟩ := p_spread hC h hT hl hB (List.mem_of_getElem? hcc)
      have rq := hC.2.2.2.2.2 k c hcc
      refine ⟨.inl (nI (k + 1), τ1), ?_, ⟨k + 1, rfl, hTn.succ hm hV hlt, ?_⟩, ?_⟩
      · simp (disch := first | exact H1c | omega) [xr_0_0, xr_1_0, xr_5_0, xr_6_0, xr_10_0, xr_11_0, xr_13_0, xr_14_0, xr_15_0, xr_16_0, xr_17_0, xr_19_0, xr_20_0, xr_21_0, xr_23_0, xr_25_0, xr_26_0, xr_400_9, xr_501_10, xr_502_10, xr_501_25, xr_502_25, xr_700_20, xr_701_20, xr_702_20, xr_703_20, xr_700_39, xr_701_39, xr_702_39, xr_703_39, xr_800_44, xr_501_45, xr_502_45, xi_0, xp_0, xv_0, xi_9, xp_9, xv_9, xi_10, xp_10, xv_10, xi_25, xp_25, xv_25, xi_45, xp_45, xv_45, xi_20, xp_20, xv_20, xi_39, xp_39, xv_39, xi_44, xp_44, xv_44, xl_17, xs_17, xl_18, xs_18, xl_21, xs_21, xl_22, xs_22, xl_23, xs_23, xl_24, xs_24, xl_32, xs_32, xl_33, xs_33, xl_34, xs_34, xl_35, xs_35, xl_36, xs_36, xl_37, xs_37, xl_38, xs_38, xl_40, xs_40, xl_41, xs_41, xl_42, xs_42, xl_43, xs_43, xl_52, xs_52, xl_53, xs_53, xl_54, xs_54, xl_55, xs_55, lI, mI_eq, nI_add, pk_mul, nlt, nle, neq, nI_mI, mI_nI, nltm, mltn, nsub, zremN, zdivN, r18, hlt, rq, b1]
      · rw [bfsK_succ hcc]; exact b2
      · show 129600 - (nI (k + 1)).toNatClampNeg < 129600 - (nI k).toNatClampNeg
        rw [nI_clamp (by omega), nI_clamp (by omega)]
        omega
    · have hk1 := hTn.1
      refine ⟨.inr τ, ?_, k, hTn.be hlt, hC⟩
      simp (disch := first | exact H1c | omega) [xr_0_0, xr_1_0, xr_5_0, xr_6_0, xr_10_0, xr_11_0, xr_13_0, xr_14_0, xr_15_0, xr_16_0, xr_17_0, xr_19_0, xr_20_0, xr_21_0, xr_23_0, xr_25_0, xr_26_0, xr_400_9, xr_501_10, xr_502_10, xr_501_25, xr_502_25, xr_700_20, xr_701_20, xr_702_20, xr_703_20, xr_700_39, xr_701_39, xr_702_39, xr_703_39, xr_800_44, xr_501_45, xr_502_45, xi_0, xp_0, xv_0, xi_9, xp_9, xv_9, xi_10, xp_10, xv_10, xi_25, xp_25, xv_25, xi_45, xp_45, xv_45, xi_20, xp_20, xv_20, xi_39, xp_39, xv_39, xi_44, xp_44, xv_44, xl_17, xs_17, xl_18, xs_18, xl_21, xs_21, xl_22, xs_22, xl_23, xs_23, xl_24, xs_24, xl_32, xs_32, xl_33, xs_33, xl_34, xs_34, xl_35, xs_35, xl_36, xs_36, xl_37, xs_37, xl_38, xs_38, xl_40, xs_40, xl_41, xs_41, xl_42, xs_42, xl_43, xs_43, xl_52, xs_52, xl_53, xs_53, xl_54, xs_54, xl_55, xs_55, lI, mI_eq, nI_add, pk_mul, nlt, nle, neq, nI_mI, mI_nI, nltm, mltn, nsub, zremN, zdivN, r18, hlt]
      all_goals try (intro hh; exact absurd hh hlt)
/-- whether it is done in a state -/
def dn (T : Nat → Int32) (c : Nat) : Bool := sDone T (dec T c).1
/-- the state in the queue's place k is the first that is done -/
def Fdn (T : Nat → Int32) (q : List Nat) (k c : Nat) : Prop := q[k]? = some c ∧ dn T c = true ∧ ∀ j, j < k → ∀ c', q[j]? = some c' → dn T c' = false
theorem p_findDone (h : HC x σ t T B P O) (hT : TW T) (hS : SV T (nowS T)) (hN : Agr T (zAI σ (x + 17), zAI σ (x + 18)) (nowS T)) : ∃ r τ k, f_X0_findDone x σ = some (r, τ) ∧ CX x σ t T (bfsK (msM T (cOt x σ)) (b0 (enc T (nowS T))) k) τ ∧ (mvs T).length ≤ 92 ∧ Tn (msM T (cOt x σ)) (enc T (nowS T)) k ∧
    ((∃ c, r = nI (psi T c) ∧ Fdn T (bfsK (msM T (cOt x σ)) (b0 (enc T (nowS T))) k).2 k c) ∨ (r = mI ∧ BE (msM T (cOt x σ)) (enc T (nowS T)) k ∧ ∀ c, c ∈ (bfsK (msM T (cOt x σ)) (b0 (enc T (nowS T))) k).2 → dn T c = false)) := by
  obtain ⟨τ0, a0, C0, hl⟩ := p_beginAll h hT hS hN
  have hV := VM_enc hT hS
  have hc : CInv x σ := h.1
  generalize enc T (nowS T) = c0 at *
  have hm := Cl_M hT (cOt x σ)
  have key := loop_inv (body := fun s : (Int32 × ZT) => f_X0_findDone_L6 x s.1 s.2) (fun s => ∃ k, s.1 = nI k ∧ Tn (msM T (cOt x σ)) c0 k ∧ CX x σ t T (bfsK (msM T (cOt x σ)) (b0 c0) k) s.2 ∧ ∀ j, j < k → ∀ c, (bfsK (msM T (cOt x σ)) (b0 c0) k).2[j]? = some c → dn T c = false) (fun s => 129600 - s.1.toNatClampNeg)
    (fun o => match o with
      | .inl o => ∃ k c, CX x σ t T (bfsK (msM T (cOt x σ)) (b0 c0) k) o.2 ∧ Tn (msM T (cOt x σ)) c0 k ∧ o.1 = nI (psi T c) ∧ Fdn T (bfsK (msM T (cOt x σ)) (b0 c0) k).2 k c
      | .inr τ => ∃ k, CX x σ t T (bfsK (msM T (cOt x σ)) (b0 c0) k) τ ∧ Tn (msM T (cOt x σ)) c0 k ∧ BE (msM T (cOt x σ)) c0 k ∧ ∀ c, c ∈ (bfsK (msM T (cOt x σ)) (b0 c0) k).2 → dn T c = false) (fun s hI => ?_) (nI 0, τ0) ⟨0, rfl, Tn.zero _ _, C0, fun j hj => absurd hj (Nat.not_lt_zero j)⟩
  · obtain ⟨o, g1, g2⟩ := key
    unfold f_X0_findDone
    simp only [xv_0 hc, a0, bind_s, lI, g1, mI_eq]
    cases o with
    | inl o =>
      obtain ⟨k, c, g3, g4, g5, g6⟩ := g2
      exact ⟨o.1, o.2, k, rfl, g3, hl, g4, Or.inl ⟨c, g5, g6⟩⟩
    | inr τ =>
      obtain ⟨k, g3, g4, g5, g6⟩ := g2
      exact ⟨mI, τ, k, rfl, g3, hl, g4, Or.inr ⟨rfl, g5, g6⟩⟩
  · obtain ⟨i, τ⟩ := s
    obtain ⟨k, hk, hTn, hC, hnd⟩ := hI
    have hk : i = nI k := hk
    subst hk
    have hC : CX x σ t T (bfsK (msM T (cOt x σ)) (b0 c0) k) τ := hC
    obtain ⟨H1, o1⟩ := hC.tt h
    have H1c : CInv x τ := H1.1
    have hB := (bfsK_inv hm hV k).1
    have hBl := hB.len
    have r18 := hC.2.2.2.1
    show ∃ y, f_X0_findDone_L6 x (nI k) τ = some y ∧ _
    unfold f_X0_findDone_L6
    by_cases hlt : k < (bfsK (msM T (cOt x σ)) (b0 c0) k).2.length
    · obtain ⟨c, hcc⟩ : ∃ c, (bfsK (msM T (cOt x σ)) (b0 c0) k).2[k]? = some c := ⟨_, List.getElem?_eq_getElem hlt⟩
      have hcV := hB.2.2.1 c (List.mem_of_getElem? hcc)
      have hpl := psi_lt hT hcV.1
      have rq := hC.2.2.2.2.2 k c hcc
      have sp := H1.sp hC.2.1
      have hbe := p_beN sp hT (c := psi T c) (by omega)
      have hag : Agr T (openK T (psi T c) (zAI τ (x + 32), zAI τ (x + 33))) (dec T c) := (openK_agr T _ _).trans (hcV.1.1.deK hT)
      generalize openK T (psi T c) (zAI τ (x + 32), zAI τ (x + 33)) = y at hbe hag
      have hC2 := hC.cn y
      obtain ⟨H2, o2⟩ := hC2.tt h
      have H2c : CInv x (CN (x + 32) (x + 33) τ y) := H2.1
      have hd := p_isDone (H2.sp hC2.2.1) hT
      rw [CN_1, hag.done] at hd
      have rq2 := hC2.2.2.2.2.2 k c hcc
      cases hdn : dn T c with
      | false =>
        obtain ⟨τ1, b1, b2⟩ := p_spread hC2 h hT hl hB (List.mem_of_getElem? hcc)
        have hd' : f_X5_isDone (x + 25) (CN (x + 32) (x + 33) τ y) = some (nI 0, CN (x + 32) (x + 33) τ y) := by
          rw [hd]
          show some (bI (dn T c), _) = _
          rw [hdn]; rfl
        refine ⟨.inl (nI (k + 1), τ1), ?_, ⟨k + 1, rfl, hTn.succ hm hV hlt, ?_, ?_⟩, ?_⟩
        · simp (disch := first | exact H1c | exact H2c | omega) [xr_0_0, xr_1_0, xr_5_0, xr_6_0, xr_10_0, xr_11_0, xr_13_0, xr_14_0, xr_15_0, xr_16_0, xr_17_0, xr_19_0, xr_20_0, xr_21_0, xr_23_0, xr_25_0, xr_26_0, xr_400_9, xr_501_10, xr_502_10, xr_501_25, xr_502_25, xr_700_20, xr_701_20, xr_702_20, xr_703_20, xr_700_39, xr_701_39, xr_702_39, xr_703_39, xr_800_44, xr_501_45, xr_502_45, xi_0, xp_0, xv_0, xi_9, xp_9, xv_9, xi_10, xp_10, xv_10, xi_25, xp_25, xv_25, xi_45, xp_45, xv_45, xi_20, xp_20, xv_20, xi_39, xp_39, xv_39, xi_44, xp_44, xv_44, xl_17, xs_17, xl_18, xs_18, xl_21, xs_21, xl_22, xs_22, xl_23, xs_23, xl_24, xs_24, xl_32, xs_32, xl_33, xs_33, xl_34, xs_34, xl_35, xs_35, xl_36, xs_36, xl_37, xs_37, xl_38, xs_38, xl_40, xs_40, xl_41, xs_41, xl_42, xs_42, xl_43, xs_43, xl_52, xs_52, xl_53, xs_53, xl_54, xs_54, xl_55, xs_55, lI, mI_eq, nI_add, pk_mul, nlt, nle, neq, nI_mI, mI_nI, nltm, mltn, nsub, zremN, zdivN, r18, hlt, rq, hbe, hd', bnd2_s, rq2, b1]
        · rw [bfsK_succ hcc]; exact b2
        · intro j hj c' hc'
          obtain ⟨⟨l, hl'⟩, -⟩ := (bfsK_inv hm hV k).2
          rw [hl', List.getElem?_append_left (by omega)] at hc'
          by_cases ej : j = k
          · subst ej
            rw [hcc] at hc'
            cases hc'
            exact hdn
          · exact hnd j (by omega) c' hc'
        · show 129600 - (nI (k + 1)).toNatClampNeg < 129600 - (nI k).toNatClampNeg
          rw [nI_clamp (by omega), nI_clamp (by omega)]
          omega
      | true =>
        have hd' : f_X5_isDone (x + 25) (CN (x + 32) (x + 33) τ y) = some (nI 1, CN (x + 32) (x + 33) τ y) := by
          rw [hd]
          show some (bI (dn T c), _) = _
          rw [hdn]; rfl
        refine ⟨.inr (.inl (nI (psi T c), CN (x + 32) (x + 33) τ y)), ?_, k, c, hC2, hTn, rfl, hcc, hdn, hnd⟩
        simp (disch := first | exact H1c | exact H2c | omega) [xr_0_0, xr_1_0, xr_5_0, xr_6_0, xr_10_0, xr_11_0, xr_13_0, xr_14_0, xr_15_0, xr_16_0, xr_17_0, xr_19_0, xr_20_0, xr_21_0, xr_23_0, xr_25_0, xr_26_0, xr_400_9, xr_501_10, xr_502_10, xr_501_25, xr_502_25, xr_700_20, xr_701_20, xr_702_20, xr_703_20, xr_700_39, xr_701_39, xr_702_39, xr_703_39, xr_800_44, xr_501_45, xr_502_45, xi_0, xp_0, xv_0, xi_9, xp_9, xv_9, xi_10, xp_10, xv_10, xi_25, xp_25, xv_25, xi_45, xp_45, xv_45, xi_20, xp_20, xv_20, xi_39, xp_39, xv_39, xi_44, xp_44, xv_44, xl_17, xs_17, xl_18, xs_18, xl_21, xs_21, xl_22, xs_22, xl_23, xs_23, xl_24, xs_24, xl_32, xs_32, xl_33, xs_33, xl_34, xs_34, xl_35, xs_35, xl_36, xs_36, xl_37, xs_37, xl_38, xs_38, xl_40, xs_40, xl_41, xs_41, xl_42, xs_42, xl_43, xs_43, xl_52, xs_52, xl_53, xs_53, xl_54, xs_54, xl_55, xs_55, lI, mI_eq, nI_add, pk_mul, nlt, nle, neq, nI_mI, mI_nI, nltm, mltn, nsub, zremN, zdivN, r18, hlt, rq, hbe, hd', bnd2_s, rq2]
    · have hbe := hTn.be hlt
      have hk1 := hTn.1
      refine ⟨.inr (.inr τ), ?_, k, hC, hTn, hbe, fun c hcm => ?_⟩
      · simp (disch := first | exact H1c | omega) [xr_0_0, xr_1_0, xr_5_0, xr_6_0, xr_10_0, xr_11_0, xr_13_0, xr_14_0, xr_15_0, xr_16_0, xr_17_0, xr_19_0, xr_20_0, xr_21_0, xr_23_0, xr_25_0, xr_26_0, xr_400_9, xr_501_10, xr_502_10, xr_501_25, xr_502_25, xr_700_20, xr_701_20, xr_702_20, xr_703_20, xr_700_39, xr_701_39, xr_702_39, xr_703_39, xr_800_44, xr_501_45, xr_502_45, xi_0, xp_0, xv_0, xi_9, xp_9, xv_9, xi_10, xp_10, xv_10, xi_25, xp_25, xv_25, xi_45, xp_45, xv_45, xi_20, xp_20, xv_20, xi_39, xp_39, xv_39, xi_44, xp_44, xv_44, xl_17, xs_17, xl_18, xs_18, xl_21, xs_21, xl_22, xs_22, xl_23, xs_23, xl_24, xs_24, xl_32, xs_32, xl_33, xs_33, xl_34, xs_34, xl_35, xs_35, xl_36, xs_36, xl_37, xs_37, xl_38, xs_38, xl_40, xs_40, xl_41, xs_41, xl_42, xs_42, xl_43, xs_43, xl_52, xs_52, xl_53, xs_53, xl_54, xs_54, xl_55, xs_55, lI, mI_eq, nI_add, pk_mul, nlt, nle, neq, nI_mI, mI_nI, nltm, mltn, nsub, zremN, zdivN, r18, hlt]
        all_goals try (intro hh; exact absurd hh hlt)
      · obtain ⟨j, hj⟩ := List.mem_iff_getElem?.mp hcm
        have := (List.getElem?_eq_some_iff.mp hj).1
        exact hnd j (by omega) c hj
end
