set_option maxRecDepth 100000
section
variable {x t : Nat} {σ : ZT} {T : Nat → Int32} {B P O : Nat → Nat}
/-- a state's number put into the Spot, a move done, its number taken -/
theorem p_spread {s : Bf} {τ : ZT} (hC : CX x σ t T s τ) (h : HC x σ t T B P O) (hT : TW T) (hl : (mvs T).length ≤ 92) (hB : BI (VM T) 129600 s) {c : Nat} (hcm : c ∈ s.2) :
    ∃ τ', f_X0_spread x (nI (psi T c)) τ = some τ' ∧ CX x σ t T (expA (msM T (cOt x σ)) c (dA s c + 1) s) τ' := by
  rw [foldl_ms]
  have hcV := hB.2.2.1 c hcm
  obtain ⟨d, hd⟩ : ∃ d, s.1 c = some d := Option.ne_none_iff_exists'.mp ((hB.2.1 c).mpr hcm)
  have hdA : dA s c = d := by unfold dA; rw [hd]; rfl
  have hdl := hB.2.2.2 c d hd
  have hpl := psi_lt hT hcV.1
  rw [hdA]
  have key := loop_foldl (body := fun y : (Int32 × ZT) => f_X0_spread_L2 x (nI (psi T c)) y.1 y.2) (L := mvs T) (f := fun s v => stepA c (d + 1) s (gM T (cOt x σ) v)) (P := fun u τ => CX x σ t T u τ ∧ BI (VM T) 129600 u ∧ u.1 c = some d) (fun j v hj u τ hP => ?_) (fun u τ hP => ?_) s τ ⟨hC, hB, hd⟩
  · obtain ⟨τ', g1, g2⟩ := key
    refine ⟨τ', ?_, g2.1⟩
    unfold f_X0_spread
    simp only [lI, g1, bind_s]
  · obtain ⟨hC, hB, hd⟩ := hP
    obtain ⟨H1, o1⟩ := hC.tt h
    have H1c : CInv x τ := H1.1
    have hjl2 := (List.getElem?_eq_some_iff.mp hj).1
    have sp := H1.sp hC.2.1
    have hbe := p_beN sp hT (c := psi T c) (by omega)
    have hag : Agr T (openK T (psi T c) (zAI τ (x + 32), zAI τ (x + 33))) (dec T c) := (openK_agr T _ _).trans (hcV.1.1.deK hT)
    generalize openK T (psi T c) (zAI τ (x + 32), zAI τ (x + 33)) = y at hbe hag
    have hC2 := hC.cn y
    obtain ⟨H2, o2⟩ := hC2.tt h
    have H2c : CInv x (CN (x + 32) (x + 33) τ y) := H2.1
    have sp2 := H2.sp hC2.2.1
    have hy : SV T y := hcV.1.1.agr hag.symm
    have e1 : zAI (CN (x + 32) (x + 33) τ y) (x + 32) = y.1 := CN_1 y
    have e2 : zAI (CN (x + 32) (x + 33) τ y) (x + 33) = y.2 := CN_2 (by omega) y
    have hdo := p_does (mo := x + 20) sp2 H2.mo hT (by rw [e1, e2]; exact hy) hC2.2.2.1 hl hj
    rw [e1, e2, show (zI (CN (x + 32) (x + 33) τ y) 503 (x + 25), zI (CN (x + 32) (x + 33) τ y) 504 (x + 25), zI (CN (x + 32) (x + 33) τ y) 505 (x + 25)) = cOt x σ from o2] at hdo
    have hvW := mvs_W (List.mem_of_getElem? hj)
    have r704 : zI τ 704 (x + 20) = nI (mvs T).length := hC.2.2.1.1
    have hBl := hB.len
    have hdl := hB.2.2.2 c d hd
    show ∃ τ', f_X0_spread_L2 x (nI (psi T c)) (nI j) τ = _ ∧ CX x σ t T (stepA c (d + 1) u (gM T (cOt x σ) v)) τ' ∧ BI (VM T) 129600 (stepA c (d + 1) u (gM T (cOt x σ) v)) ∧ (stepA c (d + 1) u (gM T (cOt x σ) v)).1 c = some d
    unfold f_X0_spread_L2 f_X0_spread_J55_2 stepA
    rcases hag.mv (cOt x σ) hvW.1 with ⟨m1, m2⟩ | ⟨r1, r2, m1, m2, m3⟩
    · have hg : gM T (cOt x σ) v c = none := by unfold gM; rw [m2]; rfl
      rw [m1] at hdo
      rw [hg]
      refine ⟨CN (x + 32) (x + 33) τ y, ?_, hC2, hB, hd⟩
      have hdo' : f_X7_does (x + 20) (x + 25) (nI j) (CN (x + 32) (x + 33) τ y) = some (nI 0, CN (x + 32) (x + 33) τ y) := hdo
      simp (disch := first | exact H1c | exact H2c | omega) [xr_0_0, xr_1_0, xr_5_0, xr_6_0, xr_10_0, xr_11_0, xr_13_0, xr_14_0, xr_15_0, xr_16_0, xr_17_0, xr_19_0, xr_20_0, xr_21_0, xr_23_0, xr_25_0, xr_26_0, xr_400_9, xr_501_10, xr_502_10, xr_501_25, xr_502_25, xr_700_20, xr_701_20, xr_702_20, xr_703_20, xr_700_39, xr_701_39, xr_702_39, xr_703_39, xr_800_44, xr_501_45, xr_502_45, xi_0, xp_0, xv_0, xi_9, xp_9, xv_9, xi_10, xp_10, xv_10, xi_25, xp_25, xv_25, xi_45, xp_45, xv_45, xi_20, xp_20, xv_20, xi_39, xp_39, xv_39, xi_44, xp_44, xv_44, xl_17, xs_17, xl_18, xs_18, xl_21, xs_21, xl_22, xs_22, xl_23, xs_23, xl_24, xs_24, xl_32, xs_32, xl_33, xs_33, xl_34, xs_34, xl_35, xs_35, xl_36, xs_36, xl_37, xs_37, xl_38, xs_38, xl_40, xs_40, xl_41, xs_41, xl_42, xs_42, xl_43, xs_43, xl_52, xs_52, xl_53, xs_53, xl_54, xs_54, xl_55, xs_55, lI, mI_eq, nI_add, pk_mul, nlt, nle, neq, nI_mI, mI_nI, nltm, mltn, nsub, zremN, zdivN, r704, hjl2, hbe, bnd2_s, hdo']
    · have hr1 : SV T r1 := hy.mv hT hvW.1 m1
      have hr2 : SV T r2 := hcV.1.1.mv hT hvW.1 m2
      have hg : gM T (cOt x σ) v c = some (enc T r2) := by unfold gM; rw [m2]; rfl
      rw [m1] at hdo
      have hdo' : f_X7_does (x + 20) (x + 25) (nI j) (CN (x + 32) (x + 33) τ y) = some (nI 1, CN (x + 32) (x + 33) τ r1) := by
        have e3 : CN (x + 32) (x + 33) (CN (x + 32) (x + 33) τ y) r1 = CN (x + 32) (x + 33) τ r1 := CN_CN (by omega) _ _
        rw [← e3]
        exact hdo
      rw [hg]
      have hV' := VM_enc hT hr2
      have hps : enK T (r1.1, r1.2) = psi T (enc T r2) := by
        unfold psi
        rw [(hr2.dec hT).enK']
        exact m3.enK'
      have hC3 := hC.cn r1
      obtain ⟨H3, o3⟩ := hC3.tt h
      have H3c : CInv x (CN (x + 32) (x + 33) τ r1) := H3.1
      have sp3 := H3.sp hC3.2.1
      have f1 : zAI (CN (x + 32) (x + 33) τ r1) (x + 32) = r1.1 := CN_1 r1
      have f2 : zAI (CN (x + 32) (x + 33) τ r1) (x + 33) = r1.2 := CN_2 (by omega) r1
      have hnum := p_number sp3 hT (by rw [f1]; exact fun p hp => (hr1.1 p hp).1) (by rw [f2]; exact fun p hp => (hr1.2.1 p hp).1)
      rw [f1, f2, hps] at hnum
      obtain ⟨τ', s1, s2⟩ := p_see hC3 h hT hB (c := enc T r2) (d := d + 1) hV'.1 (by omega)
      obtain ⟨u1, u2⟩ := hB.see (d := d + 1) (c := enc T r2) (by omega) hV'
      have rfar : zAI (CN (x + 32) (x + 33) τ r1) (x + 34) (psi T c) = nI d := by
        rw [hC3.2.2.2.2.1 c hcV.1, hd]
        rfl
      refine ⟨τ', ?_, s2, u1, u2.2 c d hd⟩
      simp (disch := first | exact H1c | exact H2c | exact H3c | omega) [xr_0_0, xr_1_0, xr_5_0, xr_6_0, xr_10_0, xr_11_0, xr_13_0, xr_14_0, xr_15_0, xr_16_0, xr_17_0, xr_19_0, xr_20_0, xr_21_0, xr_23_0, xr_25_0, xr_26_0, xr_400_9, xr_501_10, xr_502_10, xr_501_25, xr_502_25, xr_700_20, xr_701_20, xr_702_20, xr_703_20, xr_700_39, xr_701_39, xr_702_39, xr_703_39, xr_800_44, xr_501_45, xr_502_45, xi_0, xp_0, xv_0, xi_9, xp_9, xv_9, xi_10, xp_10, xv_10, xi_25, xp_25, xv_25, xi_45, xp_45, xv_45, xi_20, xp_20, xv_20, xi_39, xp_39, xv_39, xi_44, xp_44, xv_44, xl_17, xs_17, xl_18, xs_18, xl_21, xs_21, xl_22, xs_22, xl_23, xs_23, xl_24, xs_24, xl_32, xs_32, xl_33, xs_33, xl_34, xs_34, xl_35, xs_35, xl_36, xs_36, xl_37, xs_37, xl_38, xs_38, xl_40, xs_40, xl_41, xs_41, xl_42, xs_42, xl_43, xs_43, xl_52, xs_52, xl_53, xs_53, xl_54, xs_54, xl_55, xs_55, lI, mI_eq, nI_add, pk_mul, nlt, nle, neq, nI_mI, mI_nI, nltm, mltn, nsub, zremN, zdivN, r704, hjl2, hbe, bnd2_s, hdo', hnum, rfar, s1]
  · obtain ⟨hC, hB, hd⟩ := hP
    obtain ⟨H1, o1⟩ := hC.tt h
    have H1c : CInv x τ := H1.1
    have r704 : zI τ 704 (x + 20) = nI (mvs T).length := hC.2.2.1.1
    unfold f_X0_spread_L2
    simp (disch := first | exact H1c | omega) [xr_0_0, xr_1_0, xr_5_0, xr_6_0, xr_10_0, xr_11_0, xr_13_0, xr_14_0, xr_15_0, xr_16_0, xr_17_0, xr_19_0, xr_20_0, xr_21_0, xr_23_0, xr_25_0, xr_26_0, xr_400_9, xr_501_10, xr_502_10, xr_501_25, xr_502_25, xr_700_20, xr_701_20, xr_702_20, xr_703_20, xr_700_39, xr_701_39, xr_702_39, xr_703_39, xr_800_44, xr_501_45, xr_502_45, xi_0, xp_0, xv_0, xi_9, xp_9, xv_9, xi_10, xp_10, xv_10, xi_25, xp_25, xv_25, xi_45, xp_45, xv_45, xi_20, xp_20, xv_20, xi_39, xp_39, xv_39, xi_44, xp_44, xv_44, xl_17, xs_17, xl_18, xs_18, xl_21, xs_21, xl_22, xs_22, xl_23, xs_23, xl_24, xs_24, xl_32, xs_32, xl_33, xs_33, xl_34, xs_34, xl_35, xs_35, xl_36, xs_36, xl_37, xs_37, xl_38, xs_38, xl_40, xs_40, xl_41, xs_41, xl_42, xs_42, xl_43, xs_43, xl_52, xs_52, xl_53, xs_53, xl_54, xs_54, xl_55, xs_55, lI, mI_eq, nI_add, pk_mul, nlt, nle, neq, nI_mI, mI_nI, nltm, mltn, nsub, zremN, zdivN, r704]
theorem cpI_k {a b n : Nat} (ha : zK σ a = 21) (hb : zK σ b = 21) (h1 : n ≤ zN σ a) (h2 : n ≤ zN σ b) (hn : n < 2 ^ 31) : cpI a (nI 0) b (nI 0) (nI n) σ = some (sAIr σ b (mix n (zAI σ a) (zAI σ b))) := by
  unfold cpI
  have e0 : (nI 0).toNatClampNeg = 0 := nI_clamp (by decide)
  have en : (nI n).toNatClampNeg = n := nI_clamp hn
  rw [if_pos ⟨ha, hb, nI_pos (by decide), nI_pos (by decide), nI_pos hn, by rw [e0, en]; omega, by rw [e0, en]; omega⟩, e0, en]
  congr 2
  funext k
  unfold va_cpy mix
  by_cases e : k < n
  · rw [if_pos ⟨Nat.zero_le _, by omega⟩, if_pos e]
    congr 1
    omega
  · rw [if_neg (by omega), if_neg e]
theorem p_beginAll (h : HC x σ t T B P O) (hT : TW T) (hS : SV T (nowS T)) (hN : Agr T (zAI σ (x + 17), zAI σ (x + 18)) (nowS T)) : ∃ τ, f_X0_beginAll x σ = some τ ∧ CX x σ t T (b0 (enc T (nowS T))) τ ∧ (mvs T).length ≤ 92 := by
  obtain ⟨hc, h500, htr, hok⟩ := h
  have hok2 := hok
  unfold tOK at hok2
  -- the Spot is as it is now
  have hbe : ∃ τ1, f_X5_be (x + 25) (x + 10) σ = some τ1 ∧ FX x σ τ1 ∧ zR τ1 500 (x + 25) = some t ∧ Agr T (zAI τ1 (x + 32), zAI τ1 (x + 33)) (nowS T) := by
    have q1 : gR 5 500 (x + 10) σ = some t := gR_k (xk_10 hc) h500
    have hc2 : CInv x (sR σ 500 (x + 25) (some t)) := (FX.sR500 (x := x) (some t)).cinv hc
    refine ⟨sAIr (sAIr (sR σ 500 (x + 25) (some t)) (x + 32) (mix 4 (zAI σ (x + 17)) (zAI σ (x + 32)))) (x + 33) (mix 2 (zAI σ (x + 18)) (zAI σ (x + 33))), ?_, ((FX.sR500 _).trans (FX.air (by omega) _)).trans (FX.air (by omega) _), ?_, ?_⟩
    · have c1 := cpI_k (σ := sR σ 500 (x + 25) (some t)) (a := x + 17) (b := x + 32) (n := 4) (xk_17 hc2) (xk_32 hc2) (by rw [xn_17 hc2]; omega) (by rw [xn_32 hc2]; omega) (by omega)
      have hc3 : CInv x (sAIr (sR σ 500 (x + 25) (some t)) (x + 32) (mix 4 (zAI σ (x + 17)) (zAI σ (x + 32)))) := hc2
      have c2 := cpI_k (σ := sAIr (sR σ 500 (x + 25) (some t)) (x + 32) (mix 4 (zAI σ (x + 17)) (zAI σ (x + 32)))) (a := x + 18) (b := x + 33) (n := 2) (xk_18 hc3) (xk_33 hc3) (by rw [xn_18 hc3]; omega) (by rw [xn_33 hc3]; omega) (by omega)
      rw [zAIr_ne _ (by omega), zAIr_ne _ (by omega)] at c2
      unfold f_X5_be
      have pr : pR 5 500 (x + 25) (some t) σ = some (sR σ 500 (x + 25) (some t)) := if_pos (xk_25 hc)
      simp (disch := first | exact hc | exact hc2 | exact hc3 | omega) only [q1, bind_s, pr, xr_501_10, xr_501_25, xr_502_10, xr_502_25, lI]
      rw [show zAI (sR σ 500 (x + 25) (some t)) = zAI σ from rfl] at c1 c2
      rw [c1, bind_s, xr_502_10 hc3, bind_s, xr_502_25 hc3, bind_s, c2, bind_s]
    · show zR (sR σ 500 (x + 25) (some t)) 500 (x + 25) = _
      rw [r_RR, if_pos ⟨rfl, rfl⟩]
    · rw [zAIr_at, zAIr_ne _ (by omega), zAIr_at]
      exact (mix_agr hT (zAI σ (x + 17), zAI σ (x + 18)) (zAI σ (x + 32), zAI σ (x + 33))).trans hN
  obtain ⟨τ1, a1, F1, R1, A1⟩ := hbe
  have h1 : HC x τ1 t T B P O := HC.fx ⟨hc, h500, htr, hok⟩ F1
  obtain ⟨τ2, a2, F2, M2, hl⟩ := p_tell h1.mo h1.2.2.1 (by omega) hT
  have G2 : FX x τ1 τ2 := FX.ofFR F2
  have h2 : HC x τ2 t T B P O := h1.fx G2
  have a3 : ∀ τ : ZT, CInv x τ → loopC (fun s : (Int32 × ZT) => f_X0_beginAll_L27 x s.1 s.2) (nI 0, τ) = some (sAIr τ (x + 34) (mix 129600 (fun _ => mI) (zAI τ (x + 34)))) := by
    intro τ h
    have := loop_go (body := fun s : (Int32 × ZT) => f_X0_beginAll_L27 x s.1 s.2) (fun k => (nI k, sAIr τ (x + 34) (mix k (fun _ => mI) (zAI τ (x + 34))))) 129600 (sAIr τ (x + 34) (mix 129600 (fun _ => mI) (zAI τ (x + 34)))) (fun k hk => ?_) ?_
    · have e0 : mix 0 (fun _ => mI) (zAI τ (x + 34)) = zAI τ (x + 34) := by funext i; unfold mix; simp
      simp only [e0, sAIr_self] at this
      exact this
    · have hm : up (mix k (fun _ => mI) (zAI τ (x + 34))) k mI = mix (k + 1) (fun _ => mI) (zAI τ (x + 34)) := by
        funext i
        unfold up mix
        by_cases e1 : i = k
        · subst e1; simp
        · by_cases e2 : i < k
          · simp [e1, e2, show i < k + 1 by omega]
          · simp [e1, e2, show ¬ i < k + 1 by omega]
      unfold f_X0_beginAll_L27
      simp (disch := first | exact h | omega | (simp only [Ci_sI, Ci_sL, Ci_sAI, Ci_sAL, Ci_sAIr, Ci_sALr]; exact h)) [xr_0_0, xr_1_0, xr_5_0, xr_6_0, xr_10_0, xr_11_0, xr_13_0, xr_14_0, xr_15_0, xr_16_0, xr_17_0, xr_19_0, xr_20_0, xr_21_0, xr_23_0, xr_25_0, xr_26_0, xr_400_9, xr_501_10, xr_502_10, xr_501_25, xr_502_25, xr_700_20, xr_701_20, xr_702_20, xr_703_20, xr_700_39, xr_701_39, xr_702_39, xr_703_39, xr_800_44, xr_501_45, xr_502_45, xi_0, xp_0, xv_0, xi_9, xp_9, xv_9, xi_10, xp_10, xv_10, xi_25, xp_25, xv_25, xi_45, xp_45, xv_45, xi_20, xp_20, xv_20, xi_39, xp_39, xv_39, xi_44, xp_44, xv_44, xl_17, xs_17, xl_18, xs_18, xl_21, xs_21, xl_22, xs_22, xl_23, xs_23, xl_24, xs_24, xl_32, xs_32, xl_33, xs_33, xl_34, xs_34, xl_35, xs_35, xl_36, xs_36, xl_37, xs_37, xl_38, xs_38, xl_40, xs_40, xl_41, xs_41, xl_42, xs_42, xl_43, xs_43, xl_52, xs_52, xl_53, xs_53, xl_54, xs_54, xl_55, xs_55, lI, mI_eq, nI_add, pk_mul, nlt, nle, neq, nI_mI, mI_nI, nltm, mltn, nsub, zremN, zdivN, zAIr_ne, zAIr_at, sAI_r, sAIr_sAIr, hk, hm]
    · unfold f_X0_beginAll_L27
      simp (disch := first | exact h | omega | (simp only [Ci_sI, Ci_sL, Ci_sAI, Ci_sAL, Ci_sAIr, Ci_sALr]; exact h)) [xr_0_0, xr_1_0, xr_5_0, xr_6_0, xr_10_0, xr_11_0, xr_13_0, xr_14_0, xr_15_0, xr_16_0, xr_17_0, xr_19_0, xr_20_0, xr_21_0, xr_23_0, xr_25_0, xr_26_0, xr_400_9, xr_501_10, xr_502_10, xr_501_25, xr_502_25, xr_700_20, xr_701_20, xr_702_20, xr_703_20, xr_700_39, xr_701_39, xr_702_39, xr_703_39, xr_800_44, xr_501_45, xr_502_45, xi_0, xp_0, xv_0, xi_9, xp_9, xv_9, xi_10, xp_10, xv_10, xi_25, xp_25, xv_25, xi_45, xp_45, xv_45, xi_20, xp_20, xv_20, xi_39, xp_39, xv_39, xi_44, xp_44, xv_44, xl_17, xs_17, xl_18, xs_18, xl_21, xs_21, xl_22, xs_22, xl_23, xs_23, xl_24, xs_24, xl_32, xs_32, xl_33, xs_33, xl_34, xs_34, xl_35, xs_35, xl_36, xs_36, xl_37, xs_37, xl_38, xs_38, xl_40, xs_40, xl_41, xs_41, xl_42, xs_42, xl_43, xs_43, xl_52, xs_52, xl_53, xs_53, xl_54, xs_54, xl_55, xs_55, lI, mI_eq, nI_add, pk_mul, nlt, nle, neq, nI_mI, mI_nI, nltm, mltn, nsub, zremN, zdivN]
  have h3 : CInv x (sAIr τ2 (x + 34) (mix 129600 (fun _ => mI) (zAI τ2 (x + 34)))) := h2.1
  have G4 : FX x τ2 (sI (sAIr τ2 (x + 34) (mix 129600 (fun _ => mI) (zAI τ2 (x + 34)))) 18 x (nI 0)) := (FX.air (by omega) _).trans (FX.sI18 _)
  have h4 := h2.fx G4
  have R2 : zR τ2 500 (x + 25) = some t := by rw [F2.2.2.1]; exact R1
  have R4 : zR (sI (sAIr τ2 (x + 34) (mix 129600 (fun _ => mI) (zAI τ2 (x + 34)))) 18 x (nI 0)) 500 (x + 25) = some t := R2
  have sp := h4.sp R4
  have b1 : zAI (sI (sAIr τ2 (x + 34) (mix 129600 (fun _ => mI) (zAI τ2 (x + 34)))) 18 x (nI 0)) (x + 32) = zAI τ1 (x + 32) := by
    rw [zAI_sI, zAIr_ne _ (by omega)]
    exact F2.ai (by omega)
  have b2 : zAI (sI (sAIr τ2 (x + 34) (mix 129600 (fun _ => mI) (zAI τ2 (x + 34)))) 18 x (nI 0)) (x + 33) = zAI τ1 (x + 33) := by
    rw [zAI_sI, zAIr_ne _ (by omega)]
    exact F2.ai (by omega)
  have S1 : SV T (zAI τ1 (x + 32), zAI τ1 (x + 33)) := hS.agr A1.symm
  have hnum := p_number sp hT (by rw [b1]; exact fun p hp => (S1.1 p hp).1) (by rw [b2]; exact fun p hp => (S1.2.1 p hp).1)
  have hps : enK T (zAI τ1 (x + 32), zAI τ1 (x + 33)) = psi T (enc T (nowS T)) := by
    unfold psi
    rw [(hS.dec hT).enK']
    exact A1.enK'
  rw [b1, b2, hps] at hnum
  have hV := VM_enc hT hS
  have hlt := psi_lt hT hV.1
  have C0 : CX x σ t T (fun _ => none, []) (sI (sAIr τ2 (x + 34) (mix 129600 (fun _ => mI) (zAI τ2 (x + 34)))) 18 x (nI 0)) := by
    refine ⟨(F1.trans G2).trans G4, R4, M2.of (by rw [r_II, if_neg (by omega)]; rfl) (fun k k1 k2 => by rw [zAI_sI, zAIr_ne _ (by omega)]), ?_, fun c hc => ?_, fun i c hi => by simp at hi⟩
    · rw [r_II, if_pos ⟨rfl, rfl⟩]
      rfl
    · rw [zAI_sI, zAIr_at]
      unfold mix
      rw [if_pos (psi_lt hT hc)]
      rfl
  have B0 : BI (VM T) 129600 ((fun _ => none, []) : Bf) := ⟨List.nodup_nil, fun c => by simp, fun c hc => by simp at hc, fun c d hd => by cases hd⟩
  obtain ⟨τ5, a5, C5⟩ := p_see C0 ⟨hc, h500, htr, hok⟩ hT B0 (c := enc T (nowS T)) (d := 0) hV.1 (Nat.le_refl _)
  have e5 : seeA 0 ((fun _ => none, []) : Bf) (enc T (nowS T)) = b0 (enc T (nowS T)) := rfl
  rw [e5] at C5
  refine ⟨τ5, ?_, C5, hl⟩
  have h1c : CInv x τ1 := h1.1
  have h2c : CInv x τ2 := h2.1
  have h4c : CInv x (sI (sAIr τ2 (x + 34) (mix 129600 (fun _ => mI) (zAI τ2 (x + 34)))) 18 x (nI 0)) := h4.1
  have t2 : f_X0_town_2 x τ1 = some (t, τ1) := by
    unfold f_X0_town_2
    have q1 : gR 5 500 (x + 10) τ1 = some t := gR_k (xk_10 h1.1) h1.2.1
    simp (disch := first | exact h1c | omega) only [xr_10_0, xr_400_9, bind_s, q1]
  have t3 := a3 τ2 h2.1
  unfold f_X0_beginAll
  simp (disch := first | exact hc | exact h1c | exact h2c | exact h3 | exact h4c | omega) only [xr_14_0, xr_10_0, xr_400_9, xr_13_0, xv_25, xv_0, xv_20, a1, bind_s, t2, bnd2_s, a2, lI, t3, xp_0, hnum, a5]
end
