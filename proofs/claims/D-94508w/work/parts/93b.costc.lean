set_option maxRecDepth 100000
section
variable {x m t mo : Nat} {σ τ : ZT} {T : Nat → Int32} {B P O : Nat → Nat}
theorem p_toll {s a1 a2 : Nat} (h : SP τ s a1 a2 t T B P O) (hm : MoI mo τ) (hL : MLc mo τ (mvs T)) (hT : TW T) (hl : (mvs T).length ≤ 92) {j : Nat} {v : Mv} (hj : (mvs T)[j]? = some v) : f_X7_toll mo t (nI j) τ = some (nI (cst T 1 v), τ) := by
  have hjl := (List.getElem?_eq_some_iff.mp hj).1
  have hmem := List.mem_of_getElem? hj
  have hW := mvs_W hmem
  obtain ⟨e1, e2, e3, e4⟩ := hL.2 j v hj
  have h8 := hT.2.2.1
  unfold f_X7_toll f_X7_toll_J43 f_X7_toll_J44 cst
  by_cases h2 : v.1 < 2
  · obtain ⟨br, b1, b2⟩ := mvs_br hmem h2
    have h9 := (hT.2.2.2.2.2.1 br b2).1 6 (by decide)
    have h99 := (hT.2.2.2.2.2.1 br b2).2.2.2.2.2.2.2.2.2.1
    have n1 : ¬ 1 < v.1 := by omega
    rw [b1] at e4
    have e4 : zAI τ (mo + 4) j = nI br := e4
    by_cases h1 : v.1 = 1
    · simp (disch := first | exact hm | exact h | omega) [mo700, mo703, mol1, mol4, e1, e4, lI, mI_eq, nI_add, pk_mul, nlt, nle, neq, nI_mI, mI_nI, nltm, mltn, nsub, zremN, zdivN, t606, tlb, tb1107, h9, b1, h1, b2]
    · have h0 : v.1 = 0 := by omega
      simp (disch := first | exact hm | exact h | omega) [mo700, mo703, mol1, mol4, e1, e4, lI, mI_eq, nI_add, pk_mul, nlt, nle, neq, nI_mI, mI_nI, nltm, mltn, nsub, zremN, zdivN, t606, tlb, tb1107, h9, b1, h0, b2]
  · have n1 : 1 < v.1 := by omega
    have n4 : v.1 < 4 := hW.2
    cases hb : v.2.2.2 with
    | none => simp (disch := first | exact hm | omega) [mo700, mol1, e1, lI, mI_eq, nI_add, pk_mul, nlt, nle, neq, nI_mI, mI_nI, nltm, mltn, nsub, zremN, zdivN, n1]
    | some br => simp (disch := first | exact hm | omega) [mo700, mol1, e1, lI, mI_eq, nI_add, pk_mul, nlt, nle, neq, nI_mI, mI_nI, nltm, mltn, nsub, zremN, zdivN, n1, h2]
theorem p_minutes {s a1 a2 : Nat} (h : SP τ s a1 a2 t T B P O) (hm : MoI mo τ) (hL : MLc mo τ (mvs T)) (hT : TW T) (hl : (mvs T).length ≤ 92) {j : Nat} {v : Mv} (hj : (mvs T)[j]? = some v) : f_X7_minutes mo t (nI j) τ = some (nI (cst T 2 v), τ) := by
  have hjl := (List.getElem?_eq_some_iff.mp hj).1
  have hmem := List.mem_of_getElem? hj
  have hW := mvs_W hmem
  obtain ⟨e1, e2, e3, e4⟩ := hL.2 j v hj
  have h8 := hT.2.2.1
  unfold f_X7_minutes f_X7_minutes_J28 cst
  by_cases h2 : v.1 < 2
  · obtain ⟨br, b1, b2⟩ := mvs_br hmem h2
    have h9 := (hT.2.2.2.2.2.1 br b2).1 7 (by decide)
    have n1 : ¬ 1 < v.1 := by omega
    rw [b1] at e4
    have e4 : zAI τ (mo + 4) j = nI br := e4
    simp (disch := first | exact hm | exact h | omega) [mo700, mo703, mol1, mol4, e1, e4, lI, mI_eq, nI_add, pk_mul, nlt, nle, neq, nI_mI, mI_nI, nltm, mltn, nsub, zremN, zdivN, t606, tlb, tb1108, h9, b1, h2, n1, b2]
  · have n1 : 1 < v.1 := by omega
    have n4 : v.1 < 4 := hW.2
    cases hb : v.2.2.2 with
    | none => simp (disch := first | exact hm | omega) [mo700, mol1, e1, lI, mI_eq, nI_add, pk_mul, nlt, nle, neq, nI_mI, mI_nI, nltm, mltn, nsub, zremN, zdivN, n1]
    | some br => simp (disch := first | exact hm | omega) [mo700, mol1, e1, lI, mI_eq, nI_add, pk_mul, nlt, nle, neq, nI_mI, mI_nI, nltm, mltn, nsub, zremN, zdivN, n1, h2]
/-- the component's arrays hold costs F and those that wait W, the ring from fr -/
def QX (x : Nat) (σ : ZT) (t : Nat) (T : Nat → Int32) (L : List Nat) (fr : Nat) (F : Nat → Option Nat) (W : List Nat) (τ : ZT) : Prop := CY x σ t T τ ∧ (∀ c, c ∈ L → zAI τ (x + 34) (psi T c) = oM (F c)) ∧ (∀ k, k < 129600 → (∀ c, c ∈ L → psi T c ≠ k) → zAI τ (x + 34) k = nI 2147483647) ∧ (∀ c, c ∈ L → zAI τ (x + 37) (psi T c) = bI (decide (c ∈ W))) ∧ (∀ i c, W[i]? = some c → zAI τ (x + 35) ((fr + i) % L.length) = nI (psi T c)) ∧ W.Nodup ∧ ∀ c, c ∈ W → c ∈ L
variable {L W : List Nat} {F : Nat → Option Nat} {fr : Nat}
theorem QX.cn (h : QX x σ t T L fr F W τ) (y : St) : QX x σ t T L fr F W (CN (x + 32) (x + 33) τ y) := by
  obtain ⟨h1, h2, h3, h4, h5, h6, h7⟩ := h
  refine ⟨h1.cn y, ?_, ?_, ?_, ?_, h6, h7⟩
  · rw [CN_ne _ (by omega) (by omega)]; exact h2
  · rw [CN_ne _ (by omega) (by omega)]; exact h3
  · rw [CN_ne _ (by omega) (by omega)]; exact h4
  · rw [CN_ne _ (by omega) (by omega)]; exact h5
theorem QX.wlen (h : QX x σ t T L fr F W τ) {c : Nat} (hc : c ∈ L) (hn : c ∉ W) : W.length < L.length := by
  have h1 : (c :: W).Nodup := List.nodup_cons.mpr ⟨hn, h.2.2.2.2.2.1⟩
  have := List.Nodup.length_le_of_subset h1 (l₂ := L) (fun y hy => by
    rcases List.mem_cons.mp hy with e | e
    · rw [e]; exact hc
    · exact h.2.2.2.2.2.2 y e)
  simp at this
  omega
theorem oM_lt {a : Nat} {o : Option Nat} (ha : a < 2147483647) (ho : ∀ u, o = some u → u < 2147483647) : (nI a < oM o) = (∀ u, o = some u → a < u) := by
  apply propext
  cases o with
  | none =>
    show nI a < nI 2147483647 ↔ _
    rw [nlt (by omega) (by omega)]
    exact ⟨fun _ u hu => (by cases hu), fun _ => by omega⟩
  | some u =>
    have := ho u rfl
    show nI a < nI u ↔ _
    rw [nlt (by omega) (by omega)]
    exact ⟨fun h w hw => by cases hw; exact h, fun h => h u rfl⟩
/-- all moves from the state c that was taken out of the ring -/
theorem p_relax (h : SB x m σ t T B P O) (hl : (mvs T).length ≤ 92) (wh : Nat) (hwh : wh = 1 ∨ wh = 2) (hLn : L.length ≤ 129600) (hLV : ∀ c, c ∈ L → VM T c) (hcl : ∀ c, c ∈ L → ∀ v, v ∈ mvs T → ∀ c', gM T (mOt m σ) v c = some c' → c' ∈ L) (hfr : fr < L.length) {c : Nat} (hc : c ∈ L) (hFc : ∃ v, F c = some v) (hcW : c ∉ W) (hQ : QX x σ t T L fr F W τ) {c0 : Nat} (hR : RX (mwM T (mOt m σ) wh) c0 L F (fun y => y ∈ W) c 0) :
    ∃ F' W' τ', loopC (fun s : (Int32 × Int32 × ZT) => f_X0_leastCost_L112 x (bI (decide (wh = 1))) (nI L.length) (nI fr) (nI (psi T c)) s.1 s.2.1 s.2.2) (nI W.length, nI 0, τ) = some (nI W'.length, τ') ∧ QX x σ t T L fr F' W' τ' ∧ RI (mwM T (mOt m σ) wh) c0 L F' (fun y => y ∈ W') ∧ (cmu F' L < cmu F L ∨ (F' = F ∧ W' = W)) := by
  have hT := h.2.2.2.2.2.1
  have hgm := fun {v} => @SB.gm x m t σ T B P O h v
  obtain ⟨v0, hv0⟩ := hFc
  have key := loop_upN (body := fun s : (Int32 × Int32 × ZT) => f_X0_leastCost_L112 x (bI (decide (wh = 1))) (nI L.length) (nI fr) (nI (psi T c)) s.1 s.2.1 s.2.2) (mvs T).length (fun b : (Nat → Option Nat) × List Nat => nI b.2.length) (P := fun j b τ => QX x σ t T L fr b.1 b.2 τ ∧ RX (mwM T (mOt m σ) wh) c0 L b.1 (fun y => y ∈ b.2) c j ∧ b.1 c = some v0 ∧ c ∉ b.2 ∧ (cmu b.1 L < cmu F L ∨ (b.1 = F ∧ b.2 = W))) (fun j hj b τ hP => ?_) (fun b τ hP => ?_) (F, W) τ ⟨hQ, hR, hv0, hcW, Or.inr ⟨rfl, rfl⟩⟩
  · obtain ⟨b', τ', g1, g2, g3, g4, g5, g6⟩ := key
    rw [← mwM_len T (mOt m σ) wh] at g3
    exact ⟨b'.1, b'.2, τ', g1, g2, g3.all, g6⟩
  · obtain ⟨F1, W1⟩ := b
    obtain ⟨hQ, hR, hv, hcW, hmu⟩ := hP
    have hQ : QX x σ t T L fr F1 W1 τ := hQ
    have hv : F1 c = some v0 := hv
    have hcW : c ∉ W1 := hcW
    obtain ⟨v, hjv⟩ : ∃ v, (mvs T)[j]? = some v := ⟨_, List.getElem?_eq_getElem hj⟩
    have hvm := List.mem_of_getElem? hjv
    have hq := mwM_get (w := mOt m σ) (what := wh) hjv
    obtain ⟨y, e1, e2⟩ := cy_mv hQ.1 h.2.2.1 hT hl (hLV c hc) hjv
    rw [hgm hvm] at e2
    have H1c : CInv x τ := hQ.1.ci h.2.2.1
    have H2c : CInv x (CN (x + 32) (x + 33) τ y) := (hQ.1.cn y).ci h.2.2.1
    have r704 := hQ.1.len
    have hcost := cst_le hT hvm wh
    show ∃ (b' : (Nat → Option Nat) × List Nat) (τ' : ZT), f_X0_leastCost_L112 x (bI (decide (wh = 1))) (nI L.length) (nI fr) (nI (psi T c)) (nI W1.length) (nI j) τ = some (.inl (nI b'.2.length, nI (j + 1), τ')) ∧ _
    rcases e2 with ⟨g1, g2⟩ | ⟨c', r, g1, g2, g3, g4⟩
    · refine ⟨(F1, W1), _, ?_, hQ.cn y, hR.keep hq (fun v c' h1 h2 => ?_), hv, hcW, hmu⟩
      · unfold f_X0_leastCost_L112 f_X0_leastCost_J266_112
        simp (disch := first | exact H1c | exact H2c | omega) [xr_0_0, xr_1_0, xr_5_0, xr_6_0, xr_10_0, xr_11_0, xr_13_0, xr_14_0, xr_15_0, xr_16_0, xr_17_0, xr_19_0, xr_20_0, xr_21_0, xr_23_0, xr_25_0, xr_26_0, xr_400_9, xr_501_10, xr_502_10, xr_501_25, xr_502_25, xr_700_20, xr_701_20, xr_702_20, xr_703_20, xr_700_39, xr_701_39, xr_702_39, xr_703_39, xr_800_44, xr_501_45, xr_502_45, xi_0, xp_0, xv_0, xi_9, xp_9, xv_9, xi_10, xp_10, xv_10, xi_25, xp_25, xv_25, xi_45, xp_45, xv_45, xi_20, xp_20, xv_20, xi_39, xp_39, xv_39, xi_44, xp_44, xv_44, xl_17, xs_17, xl_18, xs_18, xl_21, xs_21, xl_22, xs_22, xl_23, xs_23, xl_24, xs_24, xl_32, xs_32, xl_33, xs_33, xl_34, xs_34, xl_35, xs_35, xl_36, xs_36, xl_37, xs_37, xl_38, xs_38, xl_40, xs_40, xl_41, xs_41, xl_42, xs_42, xl_43, xs_43, xl_52, xs_52, xl_53, xs_53, xl_54, xs_54, xl_55, xs_55, lI, mI_eq, nI_add, pk_mul, nlt, nle, neq, nI_mI, mI_nI, nltm, mltn, nsub, zremN, zdivN, r704, hj, e1, g2, bnd2_s]
      · have h2 : gM T (mOt m σ) _ c = some c' := h2
        rw [g1] at h2
        cases h2
    · have hQ3 := hQ.cn r
      obtain ⟨H3, -⟩ := hQ3.1.tt h.2.2.1
      have H3c : CInv x (CN (x + 32) (x + 33) τ r) := H3.1
      have sp3 := H3.sp hQ3.1.2.1
      have hpt := p_town H3
      have hto := p_toll sp3 H3.mo hQ3.1.2.2 hT hl hjv
      have hmi := p_minutes sp3 H3.mo hQ3.1.2.2 hT hl hjv
      have hpc := psi_lt hT (hLV c hc)
      have hpc' := psi_lt hT g2
      have hc'L := hcl c hc v hvm c' g1
      have rfc := hQ3.2.1 c hc
      rw [hv] at rfc
      have rfc : zAI (CN (x + 32) (x + 33) τ r) (x + 34) (psi T c) = nI v0 := rfc
      have rfc' := hQ3.2.1 c' hc'L
      have rwt := hQ3.2.2.2.1 c' hc'L
      have hvb := hR.1.bd hLn hc hv
      have hc201 : f_X0_leastCost_L112 x (bI (decide (wh = 1))) (nI L.length) (nI fr) (nI (psi T c)) (nI W1.length) (nI j) τ = f_X0_leastCost_J201_112 x (bI (decide (wh = 1))) (nI L.length) (nI fr) (nI W1.length) (nI (psi T c)) (nI j) (nI (psi T c')) (nI (cst T wh v)) (nI v0) (CN (x + 32) (x + 33) τ r) := by
        unfold f_X0_leastCost_L112
        rcases hwh with rfl | rfl
        · simp (disch := first | exact H1c | exact H2c | exact H3c | omega) [xr_0_0, xr_1_0, xr_5_0, xr_6_0, xr_10_0, xr_11_0, xr_13_0, xr_14_0, xr_15_0, xr_16_0, xr_17_0, xr_19_0, xr_20_0, xr_21_0, xr_23_0, xr_25_0, xr_26_0, xr_400_9, xr_501_10, xr_502_10, xr_501_25, xr_502_25, xr_700_20, xr_701_20, xr_702_20, xr_703_20, xr_700_39, xr_701_39, xr_702_39, xr_703_39, xr_800_44, xr_501_45, xr_502_45, xi_0, xp_0, xv_0, xi_9, xp_9, xv_9, xi_10, xp_10, xv_10, xi_25, xp_25, xv_25, xi_45, xp_45, xv_45, xi_20, xp_20, xv_20, xi_39, xp_39, xv_39, xi_44, xp_44, xv_44, xl_17, xs_17, xl_18, xs_18, xl_21, xs_21, xl_22, xs_22, xl_23, xs_23, xl_24, xs_24, xl_32, xs_32, xl_33, xs_33, xl_34, xs_34, xl_35, xs_35, xl_36, xs_36, xl_37, xs_37, xl_38, xs_38, xl_40, xs_40, xl_41, xs_41, xl_42, xs_42, xl_43, xs_43, xl_52, xs_52, xl_53, xs_53, xl_54, xs_54, xl_55, xs_55, lI, mI_eq, nI_add, pk_mul, nlt, nle, neq, nI_mI, mI_nI, nltm, mltn, nsub, zremN, zdivN, r704, hj, e1, g3, g4, bnd2_s, rfc, hpt, hto, bI]
        · simp (disch := first | exact H1c | exact H2c | exact H3c | omega) [xr_0_0, xr_1_0, xr_5_0, xr_6_0, xr_10_0, xr_11_0, xr_13_0, xr_14_0, xr_15_0, xr_16_0, xr_17_0, xr_19_0, xr_20_0, xr_21_0, xr_23_0, xr_25_0, xr_26_0, xr_400_9, xr_501_10, xr_502_10, xr_501_25, xr_502_25, xr_700_20, xr_701_20, xr_702_20, xr_703_20, xr_700_39, xr_701_39, xr_702_39, xr_703_39, xr_800_44, xr_501_45, xr_502_45, xi_0, xp_0, xv_0, xi_9, xp_9, xv_9, xi_10, xp_10, xv_10, xi_25, xp_25, xv_25, xi_45, xp_45, xv_45, xi_20, xp_20, xv_20, xi_39, xp_39, xv_39, xi_44, xp_44, xv_44, xl_17, xs_17, xl_18, xs_18, xl_21, xs_21, xl_22, xs_22, xl_23, xs_23, xl_24, xs_24, xl_32, xs_32, xl_33, xs_33, xl_34, xs_34, xl_35, xs_35, xl_36, xs_36, xl_37, xs_37, xl_38, xs_38, xl_40, xs_40, xl_41, xs_41, xl_42, xs_42, xl_43, xs_43, xl_52, xs_52, xl_53, xs_53, xl_54, xs_54, xl_55, xs_55, lI, mI_eq, nI_add, pk_mul, nlt, nle, neq, nI_mI, mI_nI, nltm, mltn, nsub, zremN, zdivN, r704, hj, e1, g3, g4, bnd2_s, rfc, hpt, hmi, bI]
      rw [hc201]
      unfold f_X0_leastCost_J201_112 f_X0_leastCost_J266_112
      have hol := oM_lt (a := v0 + cst T wh v) (o := F1 c') (by omega) (fun u hu => by have := hR.1.bd hLn hc'L hu; omega)
      by_cases hlt : ∀ u, F1 c' = some u → v0 + cst T wh v < u
      · rw [show (∀ u, F1 c' = some u → v0 + cst T wh v < u) = True from eq_true hlt] at hol
        have hQ4 : ∀ W2 : List Nat, (W2 = W1 → c' ∈ W1) → W2.Nodup → (∀ y, y ∈ W2 ↔ (y ∈ W1 ∨ y = c')) → True := fun _ _ _ _ => trivial
        -- the far array
        have far4 : ∀ d, d ∈ L → zAI (sAI (CN (x + 32) (x + 33) τ r) (x + 34) (psi T c') (nI (v0 + cst T wh v))) (x + 34) (psi T d) = oM (upO F1 c' (some (v0 + cst T wh v)) d) := by
          intro d hd
          rw [r_AI]
          by_cases ed : d = c'
          · rw [ed, if_pos ⟨rfl, rfl⟩, upO_at]; rfl
          · rw [if_neg (fun hh => ed (psi_inj hT (hLV d hd) g2 hh.2)), upO_ne ed]
            exact hQ3.2.1 d hd
        have far5 : ∀ k, k < 129600 → (∀ d, d ∈ L → psi T d ≠ k) → zAI (sAI (CN (x + 32) (x + 33) τ r) (x + 34) (psi T c') (nI (v0 + cst T wh v))) (x + 34) k = nI 2147483647 := by
          intro k hk hn
          rw [r_AI, if_neg (fun hh => hn c' hc'L hh.2.symm)]
          exact hQ3.2.2.1 k hk hn
        by_cases hw : c' ∈ W1
        · -- it waits already
          have rwt : zAI (CN (x + 32) (x + 33) τ r) (x + 37) (psi T c') = nI 1 := by rw [rwt, decide_eq_true hw]; rfl
          obtain ⟨s1, s2, s3⟩ := hR.set (wt' := fun y => y ∈ W1) hLn hq hc hv g1 hc'L hcost hlt (fun y => ⟨Or.inl, fun hh => hh.elim id (fun e => by rw [e]; exact hw)⟩)
          refine ⟨(upO F1 c' (some (v0 + cst T wh v)), W1), sAI (CN (x + 32) (x + 33) τ r) (x + 34) (psi T c') (nI (v0 + cst T wh v)), ?_, ⟨hQ3.1.ai (by omega) _ _, far4, far5, ?_, ?_, hQ3.2.2.2.2.2.1, hQ3.2.2.2.2.2.2⟩, s1, ?_, hcW, Or.inl ?_⟩
          · simp (disch := first | exact H3c | omega | (simp only [Ci_sAI]; exact H3c)) [xr_0_0, xr_1_0, xr_5_0, xr_6_0, xr_10_0, xr_11_0, xr_13_0, xr_14_0, xr_15_0, xr_16_0, xr_17_0, xr_19_0, xr_20_0, xr_21_0, xr_23_0, xr_25_0, xr_26_0, xr_400_9, xr_501_10, xr_502_10, xr_501_25, xr_502_25, xr_700_20, xr_701_20, xr_702_20, xr_703_20, xr_700_39, xr_701_39, xr_702_39, xr_703_39, xr_800_44, xr_501_45, xr_502_45, xi_0, xp_0, xv_0, xi_9, xp_9, xv_9, xi_10, xp_10, xv_10, xi_25, xp_25, xv_25, xi_45, xp_45, xv_45, xi_20, xp_20, xv_20, xi_39, xp_39, xv_39, xi_44, xp_44, xv_44, xl_17, xs_17, xl_18, xs_18, xl_21, xs_21, xl_22, xs_22, xl_23, xs_23, xl_24, xs_24, xl_32, xs_32, xl_33, xs_33, xl_34, xs_34, xl_35, xs_35, xl_36, xs_36, xl_37, xs_37, xl_38, xs_38, xl_40, xs_40, xl_41, xs_41, xl_42, xs_42, xl_43, xs_43, xl_52, xs_52, xl_53, xs_53, xl_54, xs_54, xl_55, xs_55, lI, mI_eq, nI_add, pk_mul, nlt, nle, neq, nI_mI, mI_nI, nltm, mltn, nsub, zremN, zdivN, rfc', hol, r_AI, rwt]
          · rw [sAI_r, zAIr_ne _ (by omega)]; exact hQ3.2.2.2.1
          · rw [sAI_r, zAIr_ne _ (by omega)]; exact hQ3.2.2.2.2.1
          · show upO F1 c' _ c = _
            rw [upO_ne (Ne.symm s2)]; exact hv
          · show cmu (upO F1 c' (some (v0 + cst T wh v))) L < cmu F L
            rcases hmu with hm1 | ⟨hm1, -⟩
            · have hm1 : cmu F1 L < cmu F L := hm1
              exact Nat.lt_trans s3 hm1
            · have hm1 : F1 = F := hm1
              rw [← hm1]; exact s3
        · -- it waits now
          have rwt : zAI (CN (x + 32) (x + 33) τ r) (x + 37) (psi T c') = nI 0 := by rw [rwt, decide_eq_false hw]; rfl
          have hwl := hQ.wlen hc'L hw
          obtain ⟨s1, s2, s3⟩ := hR.set (wt' := fun y => y ∈ W1 ++ [c']) hLn hq hc hv g1 hc'L hcost hlt (fun y => by simp)
          have hst : stZ (x + 37) (nI (psi T c')) (nI 1) (sAI (CN (x + 32) (x + 33) τ r) (x + 34) (psi T c') (nI (v0 + cst T wh v))) = some (sAI (sAI (CN (x + 32) (x + 33) τ r) (x + 34) (psi T c') (nI (v0 + cst T wh v))) (x + 37) (psi T c') (nI 1)) := xs_37 (show CInv x (sAI (CN (x + 32) (x + 33) τ r) (x + 34) (psi T c') (nI (v0 + cst T wh v))) from H3c) hpc' (Or.inr rfl)
          have hmod : (fr + W1.length) % L.length < 129600 := Nat.lt_of_lt_of_le (Nat.mod_lt _ (by omega)) hLn
          refine ⟨(upO F1 c' (some (v0 + cst T wh v)), W1 ++ [c']), sAI (sAI (sAI (CN (x + 32) (x + 33) τ r) (x + 34) (psi T c') (nI (v0 + cst T wh v))) (x + 37) (psi T c') (nI 1)) (x + 35) ((fr + W1.length) % L.length) (nI (psi T c')), ?_, ⟨((hQ3.1.ai (by omega) _ _).ai (by omega) _ _).ai (by omega) _ _, ?_, ?_, ?_, ?_, ?_, ?_⟩, s1, ?_, ?_, Or.inl ?_⟩
          · rw [List.length_append]
            simp (disch := first | exact H3c | omega | (simp only [Ci_sAI]; exact H3c)) [xr_0_0, xr_1_0, xr_5_0, xr_6_0, xr_10_0, xr_11_0, xr_13_0, xr_14_0, xr_15_0, xr_16_0, xr_17_0, xr_19_0, xr_20_0, xr_21_0, xr_23_0, xr_25_0, xr_26_0, xr_400_9, xr_501_10, xr_502_10, xr_501_25, xr_502_25, xr_700_20, xr_701_20, xr_702_20, xr_703_20, xr_700_39, xr_701_39, xr_702_39, xr_703_39, xr_800_44, xr_501_45, xr_502_45, xi_0, xp_0, xv_0, xi_9, xp_9, xv_9, xi_10, xp_10, xv_10, xi_25, xp_25, xv_25, xi_45, xp_45, xv_45, xi_20, xp_20, xv_20, xi_39, xp_39, xv_39, xi_44, xp_44, xv_44, xl_17, xs_17, xl_18, xs_18, xl_21, xs_21, xl_22, xs_22, xl_23, xs_23, xl_24, xs_24, xl_32, xs_32, xl_33, xs_33, xl_34, xs_34, xl_35, xs_35, xl_36, xs_36, xl_37, xs_37, xl_38, xs_38, xl_40, xs_40, xl_41, xs_41, xl_42, xs_42, xl_43, xs_43, xl_52, xs_52, xl_53, xs_53, xl_54, xs_54, xl_55, xs_55, lI, mI_eq, nI_add, pk_mul, nlt, nle, neq, nI_mI, mI_nI, nltm, mltn, nsub, zremN, zdivN, rfc', hol, r_AI, rwt, hst]
          · intro d hd
            rw [r_AI, if_neg (by omega), r_AI, if_neg (by omega)]
            exact far4 d hd
          · intro k hk hn
            rw [r_AI, if_neg (by omega), r_AI, if_neg (by omega)]
            exact far5 k hk hn
          · intro d hd
            rw [r_AI, if_neg (by omega), r_AI]
            by_cases ed : d = c'
            · rw [ed, if_pos ⟨rfl, rfl⟩, decide_eq_true (by simp)]; rfl
            · rw [if_neg (fun hh => ed (psi_inj hT (hLV d hd) g2 hh.2)), r_AI, if_neg (by omega), hQ3.2.2.2.1 d hd]
              congr 1
              simp [ed]
          · intro i d hi
            rw [r_AI]
            by_cases ei : i < W1.length
            · have hi' : W1[i]? = some d := by rwa [List.getElem?_append_left ei] at hi
              rw [if_neg (fun hh => ring_ne hfr (by omega) hwl (by omega) hh.2), r_AI, if_neg (by omega), r_AI, if_neg (by omega)]
              exact hQ3.2.2.2.2.1 i d hi'
            · have hlt' := (List.getElem?_eq_some_iff.mp hi).1
              rw [List.length_append, List.length_singleton] at hlt'
              have ei2 : i = W1.length := by omega
              subst ei2
              rw [List.getElem?_append_right (Nat.le_refl _), Nat.sub_self] at hi
              have ed : c' = d := by simpa using hi
              rw [if_pos ⟨rfl, rfl⟩, ed]
          · rw [List.nodup_append]
            refine ⟨hQ3.2.2.2.2.2.1, by simp, fun a ha b hb => ?_⟩
            simp at hb
            subst hb
            exact fun e2 => hw (e2 ▸ ha)
          · intro d hd
            rcases List.mem_append.mp hd with hd | hd
            · exact hQ3.2.2.2.2.2.2 d hd
            · simp at hd
              rw [hd]; exact hc'L
          · show upO F1 c' _ c = _
            rw [upO_ne (Ne.symm s2)]; exact hv
          · show c ∉ W1 ++ [c']
            simp only [List.mem_append, List.mem_singleton, not_or]
            exact ⟨hcW, Ne.symm s2⟩
          · show cmu (upO F1 c' (some (v0 + cst T wh v))) L < cmu F L
            rcases hmu with hm1 | ⟨hm1, -⟩
            · have hm1 : cmu F1 L < cmu F L := hm1
              exact Nat.lt_trans s3 hm1
            · have hm1 : F1 = F := hm1
              rw [← hm1]; exact s3
      · rw [show (∀ u, F1 c' = some u → v0 + cst T wh v < u) = False from eq_false hlt] at hol
        refine ⟨(F1, W1), _, ?_, hQ3, hR.keep hq (fun v1 d h1 h2 => ?_), hv, hcW, hmu⟩
        · simp (disch := first | exact H3c | omega | (simp only [Ci_sAI]; exact H3c)) [xr_0_0, xr_1_0, xr_5_0, xr_6_0, xr_10_0, xr_11_0, xr_13_0, xr_14_0, xr_15_0, xr_16_0, xr_17_0, xr_19_0, xr_20_0, xr_21_0, xr_23_0, xr_25_0, xr_26_0, xr_400_9, xr_501_10, xr_502_10, xr_501_25, xr_502_25, xr_700_20, xr_701_20, xr_702_20, xr_703_20, xr_700_39, xr_701_39, xr_702_39, xr_703_39, xr_800_44, xr_501_45, xr_502_45, xi_0, xp_0, xv_0, xi_9, xp_9, xv_9, xi_10, xp_10, xv_10, xi_25, xp_25, xv_25, xi_45, xp_45, xv_45, xi_20, xp_20, xv_20, xi_39, xp_39, xv_39, xi_44, xp_44, xv_44, xl_17, xs_17, xl_18, xs_18, xl_21, xs_21, xl_22, xs_22, xl_23, xs_23, xl_24, xs_24, xl_32, xs_32, xl_33, xs_33, xl_34, xs_34, xl_35, xs_35, xl_36, xs_36, xl_37, xs_37, xl_38, xs_38, xl_40, xs_40, xl_41, xs_41, xl_42, xs_42, xl_43, xs_43, xl_52, xs_52, xl_53, xs_53, xl_54, xs_54, xl_55, xs_55, lI, mI_eq, nI_add, pk_mul, nlt, nle, neq, nI_mI, mI_nI, nltm, mltn, nsub, zremN, zdivN, rfc', hol]
        · have h2 : gM T (mOt m σ) v c = some d := h2
          rw [g1] at h2
          cases h2
          have h1 : F1 c = some v1 := h1
          rw [hv] at h1
          cases h1
          cases hF : F1 c' with
          | none => exact absurd (fun u hu => by rw [hF] at hu; cases hu) hlt
          | some u =>
            refine ⟨u, hF, ?_⟩
            by_cases hz : v0 + cst T wh v < u
            · exact absurd (fun u' hu' => by rw [hF] at hu'; cases hu'; exact hz) hlt
            · show u ≤ v0 + cst T wh v
              omega
  · obtain ⟨F1, W1⟩ := b
    obtain ⟨hQ, hR, hv, hcW, hmu⟩ := hP
    have H1c : CInv x τ := hQ.1.ci h.2.2.1
    have r704 := hQ.1.len
    show f_X0_leastCost_L112 x (bI (decide (wh = 1))) (nI L.length) (nI fr) (nI (psi T c)) (nI W1.length) (nI _) τ = _
    unfold f_X0_leastCost_L112
    simp (disch := first | exact H1c | omega) [xr_0_0, xr_1_0, xr_5_0, xr_6_0, xr_10_0, xr_11_0, xr_13_0, xr_14_0, xr_15_0, xr_16_0, xr_17_0, xr_19_0, xr_20_0, xr_21_0, xr_23_0, xr_25_0, xr_26_0, xr_400_9, xr_501_10, xr_502_10, xr_501_25, xr_502_25, xr_700_20, xr_701_20, xr_702_20, xr_703_20, xr_700_39, xr_701_39, xr_702_39, xr_703_39, xr_800_44, xr_501_45, xr_502_45, xi_0, xp_0, xv_0, xi_9, xp_9, xv_9, xi_10, xp_10, xv_10, xi_25, xp_25, xv_25, xi_45, xp_45, xv_45, xi_20, xp_20, xv_20, xi_39, xp_39, xv_39, xi_44, xp_44, xv_44, xl_17, xs_17, xl_18, xs_18, xl_21, xs_21, xl_22, xs_22, xl_23, xs_23, xl_24, xs_24, xl_32, xs_32, xl_33, xs_33, xl_34, xs_34, xl_35, xs_35, xl_36, xs_36, xl_37, xs_37, xl_38, xs_38, xl_40, xs_40, xl_41, xs_41, xl_42, xs_42, xl_43, xs_43, xl_52, xs_52, xl_53, xs_53, xl_54, xs_54, xl_55, xs_55, lI, mI_eq, nI_add, pk_mul, nlt, nle, neq, nI_mI, mI_nI, nltm, mltn, nsub, zremN, zdivN, r704]
end
