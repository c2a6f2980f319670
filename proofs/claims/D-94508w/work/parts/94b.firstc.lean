set_option maxRecDepth 100000
/-- good: on a shortest way -/
def GD (T : Nat → Int32) (w : Ot) (s : Bf) (D : Nat) (c : Nat) : Prop := ∃ d, s.1 c = some d ∧ d ≤ D ∧ lp (msM T w) (dn T) (D - d) c
section
variable {x m t : Nat} {σ τ : ZT} {T : Nat → Int32} {B P O : Nat → Nat} {w : Ot} {c0 k D cf : Nat}
/-- where a state on the way leads: only to the next distance -/
theorem GD.step (hT : TW T) (hV : VM T c0 ∧ c0 < 129600) (hk : ∀ j, j < k → j < (bfsK (msM T w) (b0 c0) j).2.length) (hf : Fdn T (bfsK (msM T w) (b0 c0) k).2 k cf) (hD : (bfsK (msM T w) (b0 c0) k).1 cf = some D) {c d : Nat} (hc : (bfsK (msM T w) (b0 c0) k).1 c = some d) (hd : d < D) {f : Nat → Option Nat} (hfm : f ∈ msM T w) {z : Nat} (hz : f c = some z) : (∃ i, i < k ∧ (bfsK (msM T w) (b0 c0) k).2[i]? = some c) ∧ z ∈ (bfsK (msM T w) (b0 c0) k).2 ∧ (lp (msM T w) (dn T) (D - d - 1) z ↔ ((bfsK (msM T w) (b0 c0) k).1 z = some (d + 1) ∧ GD T w (bfsK (msM T w) (b0 c0) k) D z)) := by
  have hm := Cl_M hT w
  have hB := (bfsK_inv hm hV k).1
  have hO := (bfsK_ord hm hV k).2 cf D hf.1 hD
  obtain ⟨i, hi⟩ := List.mem_iff_getElem?.mp ((hB.2.1 c).mp (by rw [hc]; simp))
  have hik : i < k := by
    by_cases e : i < k
    · exact e
    · have := hO.1 k i cf c D d (by omega) hf.1 hi hD hc
      omega
  obtain ⟨d', h1, h2⟩ := bfsK_next hm hV hk hik hi hc hfm hz
  refine ⟨⟨i, hik, hi⟩, (hB.2.1 z).mp (by rw [h1]; simp), fun hl => ?_, fun ⟨g1, g2⟩ => ?_⟩
  · have hpk := hO.2.2 z d' h1
    obtain ⟨y, hy, hdy⟩ := pk_lp hpk hl
    have hle := bfsK_least hm hV hk hf.1 hD hf.2.2 hy hdy
    have e : d' = d + 1 := by omega
    subst e
    exact ⟨h1, d + 1, h1, by omega, by rw [show D - (d + 1) = D - d - 1 by omega]; exact hl⟩
  · obtain ⟨d2, g3, g4, g5⟩ := g2
    rw [g1] at g3
    cases g3
    rw [show D - d - 1 = D - (d + 1) by omega]
    exact g5
theorem p_isGood (h : HC x σ t T B P O) (hT : TW T) (hl : (mvs T).length ≤ 92) (hV : VM T c0 ∧ c0 < 129600) (hk : ∀ j, j < k → j < (bfsK (msM T (cOt x σ)) (b0 c0) j).2.length) (hf : Fdn T (bfsK (msM T (cOt x σ)) (b0 c0) k).2 k cf) (hD : (bfsK (msM T (cOt x σ)) (b0 c0) k).1 cf = some D) {j c : Nat} (hj : (bfsK (msM T (cOt x σ)) (b0 c0) k).2[j]? = some c)
    (hC : CX x σ t T (bfsK (msM T (cOt x σ)) (b0 c0) k) τ) (hG : ∀ i z, j + 1 ≤ i → (bfsK (msM T (cOt x σ)) (b0 c0) k).2[i]? = some z → ∃ b, zAI τ (x + 36) (psi T z) = bI b ∧ (b = true ↔ GD T (cOt x σ) (bfsK (msM T (cOt x σ)) (b0 c0) k) D z)) :
    ∃ b y, f_X0_isGood x (nI (psi T c)) (nI D) τ = some (bI b, CN (x + 32) (x + 33) τ y) ∧ (b = true ↔ GD T (cOt x σ) (bfsK (msM T (cOt x σ)) (b0 c0) k) D c) := by
  have hm := Cl_M hT (cOt x σ)
  have hB := (bfsK_inv hm hV k).1
  have hO := (bfsK_ord hm hV k).2 cf D hf.1 hD
  have hcm := List.mem_of_getElem? hj
  have hcV := hB.2.2.1 c hcm
  have hpl := psi_lt hT hcV.1
  obtain ⟨d, hd⟩ := Option.ne_none_iff_exists'.mp ((hB.2.1 c).mpr hcm)
  have hBl := hB.len
  have hdl := hB.2.2.2 c d hd
  have hDl := hB.2.2.2 cf D hD
  have hstep := fun (hdD : d < D) => @GD.step T (cOt x σ) c0 k D cf hT hV hk hf hD c d hd hdD
  have rfar := hC.2.2.2.2.1 c hcV.1
  rw [hd] at rfar
  have rfar : zAI τ (x + 34) (psi T c) = nI d := rfar
  have H1c : CInv x τ := hC.cy.ci h
  unfold f_X0_isGood
  by_cases hdD : d < D
  · obtain ⟨y0, e0, -⟩ := cy_be hC.cy h hT hcV.1
    have H2c : CInv x (CN (x + 32) (x + 33) τ y0) := (hC.cy.cn y0).ci h
    have rfar2 : zAI (CN (x + 32) (x + 33) τ y0) (x + 34) (psi T c) = nI d := by rw [CN_ne _ (by omega) (by omega)]; exact rfar
    have cnn : ∀ y y', CN (x + 32) (x + 33) (CN (x + 32) (x + 33) τ y) y' = CN (x + 32) (x + 33) τ y' := fun y y' => CN_CN (by omega) y y'
    have key := loop_find (body := fun y : (Int32 × ZT) => f_X0_isGood_L46 x (nI (psi T c)) y.1 y.2) (L := mvs T) (pd := fun v => @decide (∃ z, gM T (cOt x σ) v c = some z ∧ lp (msM T (cOt x σ)) (dn T) (D - d - 1) z) (Classical.propDecidable _)) (P := fun τ' => ∃ y, τ' = CN (x + 32) (x + 33) τ y) (Q := fun _ o => o.1 = nI 1 ∧ ∃ y, o.2 = CN (x + 32) (x + 33) τ y) (fun i v hi hpd τ' hP => ?_) (fun i v hi hpd τ' hP => ?_) (fun τ' hP => ?_) (CN (x + 32) (x + 33) τ y0) ⟨y0, rfl⟩
    · rcases key with ⟨k1, τ2, k2, y, k3⟩ | ⟨v, o, k1, k2, k3, y, k4⟩
      · refine ⟨false, y, ?_, ⟨fun hh => (by cases hh), fun hg => ?_⟩⟩
        · simp (disch := first | exact H1c | exact H2c | omega) [xr_0_0, xr_1_0, xr_5_0, xr_6_0, xr_10_0, xr_11_0, xr_13_0, xr_14_0, xr_15_0, xr_16_0, xr_17_0, xr_19_0, xr_20_0, xr_21_0, xr_23_0, xr_25_0, xr_26_0, xr_400_9, xr_501_10, xr_502_10, xr_501_25, xr_502_25, xr_700_20, xr_701_20, xr_702_20, xr_703_20, xr_700_39, xr_701_39, xr_702_39, xr_703_39, xr_800_44, xr_501_45, xr_502_45, xi_0, xp_0, xv_0, xi_9, xp_9, xv_9, xi_10, xp_10, xv_10, xi_25, xp_25, xv_25, xi_45, xp_45, xv_45, xi_20, xp_20, xv_20, xi_39, xp_39, xv_39, xi_44, xp_44, xv_44, xl_17, xs_17, xl_18, xs_18, xl_21, xs_21, xl_22, xs_22, xl_23, xs_23, xl_24, xs_24, xl_32, xs_32, xl_33, xs_33, xl_34, xs_34, xl_35, xs_35, xl_36, xs_36, xl_37, xs_37, xl_38, xs_38, xl_40, xs_40, xl_41, xs_41, xl_42, xs_42, xl_43, xs_43, xl_52, xs_52, xl_53, xs_53, xl_54, xs_54, xl_55, xs_55, lI, mI_eq, nI_add, pk_mul, nlt, nle, neq, nI_mI, mI_nI, nltm, mltn, nsub, zremN, zdivN, e0, rfar2, hdD, k2, k3, bI]
        · exfalso
          obtain ⟨d2, g1, g2, g3⟩ := hg
          rw [hd] at g1
          cases g1
          rw [show D - d = (D - d - 1) + 1 by omega] at g3
          obtain ⟨f, z, f1, f2, f3⟩ := g3
          obtain ⟨v, hv, ev⟩ := List.mem_map.mp f1
          have := List.find?_eq_none.mp k1 v hv
          refine this (@decide_eq_true _ (Classical.propDecidable _) ⟨z, ?_, f3⟩)
          rw [← ev] at f2
          exact f2
      · refine ⟨true, y, ?_, ⟨fun _ => ?_, fun _ => rfl⟩⟩
        · have : o = (nI 1, CN (x + 32) (x + 33) τ y) := by
            rw [← k3, ← k4]
          simp (disch := first | exact H1c | exact H2c | omega) [xr_0_0, xr_1_0, xr_5_0, xr_6_0, xr_10_0, xr_11_0, xr_13_0, xr_14_0, xr_15_0, xr_16_0, xr_17_0, xr_19_0, xr_20_0, xr_21_0, xr_23_0, xr_25_0, xr_26_0, xr_400_9, xr_501_10, xr_502_10, xr_501_25, xr_502_25, xr_700_20, xr_701_20, xr_702_20, xr_703_20, xr_700_39, xr_701_39, xr_702_39, xr_703_39, xr_800_44, xr_501_45, xr_502_45, xi_0, xp_0, xv_0, xi_9, xp_9, xv_9, xi_10, xp_10, xv_10, xi_25, xp_25, xv_25, xi_45, xp_45, xv_45, xi_20, xp_20, xv_20, xi_39, xp_39, xv_39, xi_44, xp_44, xv_44, xl_17, xs_17, xl_18, xs_18, xl_21, xs_21, xl_22, xs_22, xl_23, xs_23, xl_24, xs_24, xl_32, xs_32, xl_33, xs_33, xl_34, xs_34, xl_35, xs_35, xl_36, xs_36, xl_37, xs_37, xl_38, xs_38, xl_40, xs_40, xl_41, xs_41, xl_42, xs_42, xl_43, xs_43, xl_52, xs_52, xl_53, xs_53, xl_54, xs_54, xl_55, xs_55, lI, mI_eq, nI_add, pk_mul, nlt, nle, neq, nI_mI, mI_nI, nltm, mltn, nsub, zremN, zdivN, e0, rfar2, hdD, k2, this, bI]
        · have hp := List.find?_some k1
          have hp := @of_decide_eq_true _ (Classical.propDecidable _) hp
          obtain ⟨z, z1, z2⟩ := hp
          refine ⟨d, hd, by omega, ?_⟩
          rw [show D - d = (D - d - 1) + 1 by omega]
          exact ⟨gM T (cOt x σ) v, z, List.mem_map.mpr ⟨v, List.mem_of_find?_eq_some k1, rfl⟩, z1, z2⟩
    all_goals obtain ⟨y1, rfl⟩ := hP
    · have hC1 := hC.cn y1
      obtain ⟨y, e1, e2⟩ := cy_mv hC1.cy h hT hl hcV.1 hi
      rw [cnn] at e1
      have H3c : CInv x (CN (x + 32) (x + 33) τ y1) := hC1.cy.ci h
      have H4c : CInv x (CN (x + 32) (x + 33) τ y) := (hC.cn y).cy.ci h
      have r704 := hC1.cy.len
      have hil := (List.getElem?_eq_some_iff.mp hi).1
      have rfr : ∀ y, zAI (CN (x + 32) (x + 33) τ y) (x + 34) (psi T c) = nI d := fun y => by rw [CN_ne _ (by omega) (by omega)]; exact rfar
      show ∃ τ', f_X0_isGood_L46 x (nI (psi T c)) (nI i) (CN (x + 32) (x + 33) τ y1) = _ ∧ _
      unfold f_X0_isGood_L46 f_X0_isGood_J122_46
      rcases e2 with ⟨g1, g2⟩ | ⟨z, r, g1, g2, g3, g4⟩
      · rw [cnn] at g2
        refine ⟨_, ?_, y, rfl⟩
        simp (disch := first | exact H3c | exact H4c | omega) [xr_0_0, xr_1_0, xr_5_0, xr_6_0, xr_10_0, xr_11_0, xr_13_0, xr_14_0, xr_15_0, xr_16_0, xr_17_0, xr_19_0, xr_20_0, xr_21_0, xr_23_0, xr_25_0, xr_26_0, xr_400_9, xr_501_10, xr_502_10, xr_501_25, xr_502_25, xr_700_20, xr_701_20, xr_702_20, xr_703_20, xr_700_39, xr_701_39, xr_702_39, xr_703_39, xr_800_44, xr_501_45, xr_502_45, xi_0, xp_0, xv_0, xi_9, xp_9, xv_9, xi_10, xp_10, xv_10, xi_25, xp_25, xv_25, xi_45, xp_45, xv_45, xi_20, xp_20, xv_20, xi_39, xp_39, xv_39, xi_44, xp_44, xv_44, xl_17, xs_17, xl_18, xs_18, xl_21, xs_21, xl_22, xs_22, xl_23, xs_23, xl_24, xs_24, xl_32, xs_32, xl_33, xs_33, xl_34, xs_34, xl_35, xs_35, xl_36, xs_36, xl_37, xs_37, xl_38, xs_38, xl_40, xs_40, xl_41, xs_41, xl_42, xs_42, xl_43, xs_43, xl_52, xs_52, xl_53, xs_53, xl_54, xs_54, xl_55, xs_55, lI, mI_eq, nI_add, pk_mul, nlt, nle, neq, nI_mI, mI_nI, nltm, mltn, nsub, zremN, zdivN, r704, hil, e1, g2, bnd2_s]
      · rw [cnn, cnn] at g3
        rw [cnn] at g4
        have H5c : CInv x (CN (x + 32) (x + 33) τ r) := (hC.cn r).cy.ci h
        have hlt := psi_lt hT g2
        have hno : ¬ lp (msM T (cOt x σ)) (dn T) (D - d - 1) z := fun hh => by
          have := @of_decide_eq_false _ (Classical.propDecidable _) hpd
          exact this ⟨z, g1, hh⟩
        obtain ⟨-, zm, zi⟩ := hstep hdD (gM_mem hi) g1
        have rz1 := (hC.cn r).2.2.2.2.1 z g2
        obtain ⟨dz, hdz⟩ := Option.ne_none_iff_exists'.mp ((hB.2.1 z).mpr zm)
        have hdzl := hB.2.2.2 z dz hdz
        rw [hdz] at rz1
        have rz1 : zAI (CN (x + 32) (x + 33) τ r) (x + 34) (psi T z) = nI dz := rz1
        refine ⟨_, ?_, r, rfl⟩
        by_cases edz : dz = d + 1
        · have hng : ¬ GD T (cOt x σ) (bfsK (msM T (cOt x σ)) (b0 c0) k) D z := fun hh => hno (zi.mpr ⟨by rw [hdz, edz], hh⟩)
          obtain ⟨iz, hiz⟩ := List.mem_iff_getElem?.mp zm
          have hge : j + 1 ≤ iz := by
            by_cases e : j + 1 ≤ iz
            · exact e
            · have := hO.1 iz j z c dz d (by omega) hiz hj hdz hd
              omega
          obtain ⟨b, b1, b2⟩ := hG iz z hge hiz
          have hb : b = false := by
            cases b with
            | false => rfl
            | true => exact absurd (b2.mp rfl) hng
          subst hb
          have rg : zAI (CN (x + 32) (x + 33) τ r) (x + 36) (psi T z) = nI 0 := by rw [CN_ne _ (by omega) (by omega)]; exact b1
          simp (disch := first | exact H3c | exact H4c | exact H5c | omega) [xr_0_0, xr_1_0, xr_5_0, xr_6_0, xr_10_0, xr_11_0, xr_13_0, xr_14_0, xr_15_0, xr_16_0, xr_17_0, xr_19_0, xr_20_0, xr_21_0, xr_23_0, xr_25_0, xr_26_0, xr_400_9, xr_501_10, xr_502_10, xr_501_25, xr_502_25, xr_700_20, xr_701_20, xr_702_20, xr_703_20, xr_700_39, xr_701_39, xr_702_39, xr_703_39, xr_800_44, xr_501_45, xr_502_45, xi_0, xp_0, xv_0, xi_9, xp_9, xv_9, xi_10, xp_10, xv_10, xi_25, xp_25, xv_25, xi_45, xp_45, xv_45, xi_20, xp_20, xv_20, xi_39, xp_39, xv_39, xi_44, xp_44, xv_44, xl_17, xs_17, xl_18, xs_18, xl_21, xs_21, xl_22, xs_22, xl_23, xs_23, xl_24, xs_24, xl_32, xs_32, xl_33, xs_33, xl_34, xs_34, xl_35, xs_35, xl_36, xs_36, xl_37, xs_37, xl_38, xs_38, xl_40, xs_40, xl_41, xs_41, xl_42, xs_42, xl_43, xs_43, xl_52, xs_52, xl_53, xs_53, xl_54, xs_54, xl_55, xs_55, lI, mI_eq, nI_add, pk_mul, nlt, nle, neq, nI_mI, mI_nI, nltm, mltn, nsub, zremN, zdivN, r704, hil, e1, g3, g4, bnd2_s, rz1, rfr, edz, rg]
        · simp (disch := first | exact H3c | exact H4c | exact H5c | omega) [xr_0_0, xr_1_0, xr_5_0, xr_6_0, xr_10_0, xr_11_0, xr_13_0, xr_14_0, xr_15_0, xr_16_0, xr_17_0, xr_19_0, xr_20_0, xr_21_0, xr_23_0, xr_25_0, xr_26_0, xr_400_9, xr_501_10, xr_502_10, xr_501_25, xr_502_25, xr_700_20, xr_701_20, xr_702_20, xr_703_20, xr_700_39, xr_701_39, xr_702_39, xr_703_39, xr_800_44, xr_501_45, xr_502_45, xi_0, xp_0, xv_0, xi_9, xp_9, xv_9, xi_10, xp_10, xv_10, xi_25, xp_25, xv_25, xi_45, xp_45, xv_45, xi_20, xp_20, xv_20, xi_39, xp_39, xv_39, xi_44, xp_44, xv_44, xl_17, xs_17, xl_18, xs_18, xl_21, xs_21, xl_22, xs_22, xl_23, xs_23, xl_24, xs_24, xl_32, xs_32, xl_33, xs_33, xl_34, xs_34, xl_35, xs_35, xl_36, xs_36, xl_37, xs_37, xl_38, xs_38, xl_40, xs_40, xl_41, xs_41, xl_42, xs_42, xl_43, xs_43, xl_52, xs_52, xl_53, xs_53, xl_54, xs_54, xl_55, xs_55, lI, mI_eq, nI_add, pk_mul, nlt, nle, neq, nI_mI, mI_nI, nltm, mltn, nsub, zremN, zdivN, r704, hil, e1, g3, g4, bnd2_s, rz1, rfr, edz]
    · have hC1 := hC.cn y1
      obtain ⟨y, e1, e2⟩ := cy_mv hC1.cy h hT hl hcV.1 hi
      rw [cnn] at e1
      have H3c : CInv x (CN (x + 32) (x + 33) τ y1) := hC1.cy.ci h
      have H4c : CInv x (CN (x + 32) (x + 33) τ y) := (hC.cn y).cy.ci h
      have r704 := hC1.cy.len
      have hil := (List.getElem?_eq_some_iff.mp hi).1
      have rfr : ∀ y, zAI (CN (x + 32) (x + 33) τ y) (x + 34) (psi T c) = nI d := fun y => by rw [CN_ne _ (by omega) (by omega)]; exact rfar
      have hyes := @of_decide_eq_true _ (Classical.propDecidable _) hpd
      obtain ⟨z0, z1, z2⟩ := hyes
      show ∃ o, f_X0_isGood_L46 x (nI (psi T c)) (nI i) (CN (x + 32) (x + 33) τ y1) = _ ∧ _
      unfold f_X0_isGood_L46 f_X0_isGood_J122_46
      rcases e2 with ⟨g1, g2⟩ | ⟨z, r, g1, g2, g3, g4⟩
      · rw [g1] at z1; cases z1
      · rw [g1] at z1
        have ez : z = z0 := Option.some.inj z1
        subst ez
        rw [cnn, cnn] at g3
        rw [cnn] at g4
        have H5c : CInv x (CN (x + 32) (x + 33) τ r) := (hC.cn r).cy.ci h
        have hlt := psi_lt hT g2
        obtain ⟨-, zm, zi⟩ := hstep hdD (gM_mem hi) g1
        obtain ⟨hdz, hgd⟩ := zi.mp z2
        have rz1 := (hC.cn r).2.2.2.2.1 z g2
        rw [hdz] at rz1
        have rz1 : zAI (CN (x + 32) (x + 33) τ r) (x + 34) (psi T z) = nI (d + 1) := rz1
        obtain ⟨iz, hiz⟩ := List.mem_iff_getElem?.mp zm
        have hge : j + 1 ≤ iz := by
          by_cases e : j + 1 ≤ iz
          · exact e
          · have := hO.1 iz j z c (d + 1) d (by omega) hiz hj hdz hd
            omega
        obtain ⟨b, b1, b2⟩ := hG iz z hge hiz
        have hb : b = true := b2.mpr hgd
        subst hb
        have rg : zAI (CN (x + 32) (x + 33) τ r) (x + 36) (psi T z) = nI 1 := by rw [CN_ne _ (by omega) (by omega)]; exact b1
        refine ⟨(nI 1, CN (x + 32) (x + 33) τ r), ?_, rfl, r, rfl⟩
        simp (disch := first | exact H3c | exact H4c | exact H5c | omega) [xr_0_0, xr_1_0, xr_5_0, xr_6_0, xr_10_0, xr_11_0, xr_13_0, xr_14_0, xr_15_0, xr_16_0, xr_17_0, xr_19_0, xr_20_0, xr_21_0, xr_23_0, xr_25_0, xr_26_0, xr_400_9, xr_501_10, xr_502_10, xr_501_25, xr_502_25, xr_700_20, xr_701_20, xr_702_20, xr_703_20, xr_700_39, xr_701_39, xr_702_39, xr_703_39, xr_800_44, xr_501_45, xr_502_45, xi_0, xp_0, xv_0, xi_9, xp_9, xv_9, xi_10, xp_10, xv_10, xi_25, xp_25, xv_25, xi_45, xp_45, xv_45, xi_20, xp_20, xv_20, xi_39, xp_39, xv_39, xi_44, xp_44, xv_44, xl_17, xs_17, xl_18, xs_18, xl_21, xs_21, xl_22, xs_22, xl_23, xs_23, xl_24, xs_24, xl_32, xs_32, xl_33, xs_33, xl_34, xs_34, xl_35, xs_35, xl_36, xs_36, xl_37, xs_37, xl_38, xs_38, xl_40, xs_40, xl_41, xs_41, xl_42, xs_42, xl_43, xs_43, xl_52, xs_52, xl_53, xs_53, xl_54, xs_54, xl_55, xs_55, lI, mI_eq, nI_add, pk_mul, nlt, nle, neq, nI_mI, mI_nI, nltm, mltn, nsub, zremN, zdivN, r704, hil, e1, g3, g4, bnd2_s, rz1, rfr, rg]
    · have hC1 := hC.cn y1
      have H3c : CInv x (CN (x + 32) (x + 33) τ y1) := hC1.cy.ci h
      have r704 := hC1.cy.len
      show f_X0_isGood_L46 x (nI (psi T c)) (nI _) (CN (x + 32) (x + 33) τ y1) = _
      unfold f_X0_isGood_L46
      simp (disch := first | exact H3c | omega) [xr_0_0, xr_1_0, xr_5_0, xr_6_0, xr_10_0, xr_11_0, xr_13_0, xr_14_0, xr_15_0, xr_16_0, xr_17_0, xr_19_0, xr_20_0, xr_21_0, xr_23_0, xr_25_0, xr_26_0, xr_400_9, xr_501_10, xr_502_10, xr_501_25, xr_502_25, xr_700_20, xr_701_20, xr_702_20, xr_703_20, xr_700_39, xr_701_39, xr_702_39, xr_703_39, xr_800_44, xr_501_45, xr_502_45, xi_0, xp_0, xv_0, xi_9, xp_9, xv_9, xi_10, xp_10, xv_10, xi_25, xp_25, xv_25, xi_45, xp_45, xv_45, xi_20, xp_20, xv_20, xi_39, xp_39, xv_39, xi_44, xp_44, xv_44, xl_17, xs_17, xl_18, xs_18, xl_21, xs_21, xl_22, xs_22, xl_23, xs_23, xl_24, xs_24, xl_32, xs_32, xl_33, xs_33, xl_34, xs_34, xl_35, xs_35, xl_36, xs_36, xl_37, xs_37, xl_38, xs_38, xl_40, xs_40, xl_41, xs_41, xl_42, xs_42, xl_43, xs_43, xl_52, xs_52, xl_53, xs_53, xl_54, xs_54, xl_55, xs_55, lI, mI_eq, nI_add, pk_mul, nlt, nle, neq, nI_mI, mI_nI, nltm, mltn, nsub, zremN, zdivN, r704]
  · obtain ⟨y, e0, e1⟩ := cy_done hC.cy h hT hcV.1
    have H2c : CInv x (CN (x + 32) (x + 33) τ y) := (hC.cy.cn y).ci h
    have rfar2 : zAI (CN (x + 32) (x + 33) τ y) (x + 34) (psi T c) = nI d := by rw [CN_ne _ (by omega) (by omega)]; exact rfar
    unfold f_X0_isGood_J42 f_X0_isGood_J43
    by_cases edD : d = D
    · subst edD
      refine ⟨dn T c, y, ?_, ⟨fun hh => ⟨d, hd, Nat.le_refl _, by rw [Nat.sub_self]; exact hh⟩, fun hh => ?_⟩⟩
      · cases hdn : dn T c with
        | false =>
          rw [hdn] at e1
          have e1 : f_X5_isDone (x + 25) (CN (x + 32) (x + 33) τ y) = some (nI 0, CN (x + 32) (x + 33) τ y) := e1
          simp (disch := first | exact H1c | exact H2c | omega) [xr_0_0, xr_1_0, xr_5_0, xr_6_0, xr_10_0, xr_11_0, xr_13_0, xr_14_0, xr_15_0, xr_16_0, xr_17_0, xr_19_0, xr_20_0, xr_21_0, xr_23_0, xr_25_0, xr_26_0, xr_400_9, xr_501_10, xr_502_10, xr_501_25, xr_502_25, xr_700_20, xr_701_20, xr_702_20, xr_703_20, xr_700_39, xr_701_39, xr_702_39, xr_703_39, xr_800_44, xr_501_45, xr_502_45, xi_0, xp_0, xv_0, xi_9, xp_9, xv_9, xi_10, xp_10, xv_10, xi_25, xp_25, xv_25, xi_45, xp_45, xv_45, xi_20, xp_20, xv_20, xi_39, xp_39, xv_39, xi_44, xp_44, xv_44, xl_17, xs_17, xl_18, xs_18, xl_21, xs_21, xl_22, xs_22, xl_23, xs_23, xl_24, xs_24, xl_32, xs_32, xl_33, xs_33, xl_34, xs_34, xl_35, xs_35, xl_36, xs_36, xl_37, xs_37, xl_38, xs_38, xl_40, xs_40, xl_41, xs_41, xl_42, xs_42, xl_43, xs_43, xl_52, xs_52, xl_53, xs_53, xl_54, xs_54, xl_55, xs_55, lI, mI_eq, nI_add, pk_mul, nlt, nle, neq, nI_mI, mI_nI, nltm, mltn, nsub, zremN, zdivN, e0, rfar2, e1, bnd2_s, bI, rz]
        | true =>
          rw [hdn] at e1
          have e1 : f_X5_isDone (x + 25) (CN (x + 32) (x + 33) τ y) = some (nI 1, CN (x + 32) (x + 33) τ y) := e1
          simp (disch := first | exact H1c | exact H2c | omega) [xr_0_0, xr_1_0, xr_5_0, xr_6_0, xr_10_0, xr_11_0, xr_13_0, xr_14_0, xr_15_0, xr_16_0, xr_17_0, xr_19_0, xr_20_0, xr_21_0, xr_23_0, xr_25_0, xr_26_0, xr_400_9, xr_501_10, xr_502_10, xr_501_25, xr_502_25, xr_700_20, xr_701_20, xr_702_20, xr_703_20, xr_700_39, xr_701_39, xr_702_39, xr_703_39, xr_800_44, xr_501_45, xr_502_45, xi_0, xp_0, xv_0, xi_9, xp_9, xv_9, xi_10, xp_10, xv_10, xi_25, xp_25, xv_25, xi_45, xp_45, xv_45, xi_20, xp_20, xv_20, xi_39, xp_39, xv_39, xi_44, xp_44, xv_44, xl_17, xs_17, xl_18, xs_18, xl_21, xs_21, xl_22, xs_22, xl_23, xs_23, xl_24, xs_24, xl_32, xs_32, xl_33, xs_33, xl_34, xs_34, xl_35, xs_35, xl_36, xs_36, xl_37, xs_37, xl_38, xs_38, xl_40, xs_40, xl_41, xs_41, xl_42, xs_42, xl_43, xs_43, xl_52, xs_52, xl_53, xs_53, xl_54, xs_54, xl_55, xs_55, lI, mI_eq, nI_add, pk_mul, nlt, nle, neq, nI_mI, mI_nI, nltm, mltn, nsub, zremN, zdivN, e0, rfar2, e1, bnd2_s, bI, rz]
      · obtain ⟨d2, g1, g2, g3⟩ := hh
        rw [hd] at g1
        cases g1
        rw [Nat.sub_self] at g3
        exact g3
    · refine ⟨false, y, ?_, ⟨fun hh => (by cases hh), fun hh => ?_⟩⟩
      · simp (disch := first | exact H1c | exact H2c | omega) [xr_0_0, xr_1_0, xr_5_0, xr_6_0, xr_10_0, xr_11_0, xr_13_0, xr_14_0, xr_15_0, xr_16_0, xr_17_0, xr_19_0, xr_20_0, xr_21_0, xr_23_0, xr_25_0, xr_26_0, xr_400_9, xr_501_10, xr_502_10, xr_501_25, xr_502_25, xr_700_20, xr_701_20, xr_702_20, xr_703_20, xr_700_39, xr_701_39, xr_702_39, xr_703_39, xr_800_44, xr_501_45, xr_502_45, xi_0, xp_0, xv_0, xi_9, xp_9, xv_9, xi_10, xp_10, xv_10, xi_25, xp_25, xv_25, xi_45, xp_45, xv_45, xi_20, xp_20, xv_20, xi_39, xp_39, xv_39, xi_44, xp_44, xv_44, xl_17, xs_17, xl_18, xs_18, xl_21, xs_21, xl_22, xs_22, xl_23, xs_23, xl_24, xs_24, xl_32, xs_32, xl_33, xs_33, xl_34, xs_34, xl_35, xs_35, xl_36, xs_36, xl_37, xs_37, xl_38, xs_38, xl_40, xs_40, xl_41, xs_41, xl_42, xs_42, xl_43, xs_43, xl_52, xs_52, xl_53, xs_53, xl_54, xs_54, xl_55, xs_55, lI, mI_eq, nI_add, pk_mul, nlt, nle, neq, nI_mI, mI_nI, nltm, mltn, nsub, zremN, zdivN, e0, rfar2, hdD, edD, bI, rz]
      · obtain ⟨d2, g1, g2, g3⟩ := hh
        rw [hd] at g1
        cases g1
        omega
end
