set_option maxRecDepth 100000
theorem loop_up0 {body : (Int32 × ZT) → Option ((Int32 × ZT) ⊕ ZT)} (n : Nat) {P : Nat → ZT → Prop} (hs : ∀ j, j < n → ∀ τ, P j τ → ∃ τ', body (nI j, τ) = some (.inl (nI (j + 1), τ')) ∧ P (j + 1) τ') (he : ∀ τ, P n τ → body (nI n, τ) = some (.inr τ)) : ∀ τ, P 0 τ → ∃ τ', loopC body (nI 0, τ) = some τ' ∧ P n τ' := by
  have key : ∀ d j, j + d = n → ∀ τ, P j τ → ∃ τ', loopC body (nI j, τ) = some τ' ∧ P n τ' := by
    intro d
    induction d with
    | zero =>
      intro j hj τ hP
      have hj : j = n := by omega
      subst hj
      refine ⟨τ, ?_, hP⟩
      rw [loopC_step, he τ hP]
      rfl
    | succ d ih =>
      intro j hj τ hP
      obtain ⟨τ1, h1, h2⟩ := hs j (by omega) τ hP
      obtain ⟨τ2, h3, h4⟩ := ih (j + 1) (by omega) τ1 h2
      refine ⟨τ2, ?_, h4⟩
      rw [loopC_step, h1]
      exact h3
  exact key n 0 (by omega)
theorem oM_cmp {a b : Option Nat} (ha : ∀ u, a = some u → u < 2147483647) (hb : ∀ u, b = some u → u < 2147483647) : (oM a < oM b) = (∃ u, a = some u ∧ ∀ v, b = some v → u < v) := by
  cases a with
  | none =>
    apply propext
    constructor
    · intro h
      exfalso
      have h : nI 2147483647 < oM b := h
      cases b with
      | none => exact Int32.lt_irrefl h
      | some v =>
        have := hb v rfl
        have h : nI 2147483647 < nI v := h
        rw [nlt (by omega) (by omega)] at h
        omega
    · rintro ⟨u, hu, -⟩
      cases hu
  | some u =>
    have := ha u rfl
    show (nI u < oM b) = _
    rw [oM_lt this hb]
    apply propext
    exact ⟨fun h => ⟨u, rfl, h⟩, fun ⟨w, hw, h⟩ => by cases hw; exact h⟩
section
variable {x m t : Nat} {σ τ : ZT} {T : Nat → Int32} {B P O : Nat → Nat}
theorem p_leastCost (h : SB x m σ t T B P O) {K : Nat} (hK : BE (msM T (mOt m σ)) (enc T (nowS T)) K) (wh : Nat) (hwh : wh = 1 ∨ wh = 2) : ∃ r τ F, f_X0_leastCost x (bI (decide (wh = 1))) σ = some (oI r, τ) ∧ FX x σ τ ∧ RI (mwM T (mOt m σ) wh) (enc T (nowS T)) (bfsK (msM T (mOt m σ)) (b0 (enc T (nowS T))) K).2 F (fun _ => False) ∧ MinD (fun c => c ∈ (bfsK (msM T (mOt m σ)) (b0 (enc T (nowS T))) K).2) F (dn T) r ∧ ∀ v, r = some v → v ≤ 25660602 := by
  have hT := h.2.2.2.2.2.1
  have hS := h.2.2.2.2.2.2.1
  obtain ⟨τ1, a1, C1, hl, hB⟩ := h.all hK
  have hV := VM_enc hT hS
  have hm := Cl_M hT (mOt m σ)
  have hs0 := (BE.start hm hV K).1
  have hcls := fun {c} (hc : c ∈ (bfsK (msM T (mOt m σ)) (b0 (enc T (nowS T))) K).2) => @BE.closed (VM T) 129600 (msM T (mOt m σ)) hm (enc T (nowS T)) K hV hK c hc
  have hx : CInv x σ := h.2.2.1.1
  generalize bfsK (msM T (mOt m σ)) (b0 (enc T (nowS T))) K = s at *
  generalize enc T (nowS T) = c0 at *
  have hBl := hB.len
  have hc0 := List.mem_of_getElem? hs0
  have hsz : 0 < s.2.length := List.length_pos_of_mem hc0
  have hLV : ∀ c, c ∈ s.2 → VM T c := fun c hc => (hB.2.2.1 c hc).1
  have hp0 := psi_lt hT hV.1
  -- all is far, none waits
  obtain ⟨τ2, b1, C2, b18, bq, bf⟩ := loop_up0 (body := fun y : (Int32 × ZT) => f_X0_leastCost_L6 x (bI (decide (wh = 1))) y.1 y.2) 129600 (P := fun k τ => CY x σ t T τ ∧ zI τ 18 x = nI s.2.length ∧ (∀ i c, s.2[i]? = some c → zAI τ (x + 35) i = nI (psi T c)) ∧ ∀ i, i < k → zAI τ (x + 34) i = nI 2147483647 ∧ zAI τ (x + 37) i = nI 0) (fun k hk τ hP => by
    obtain ⟨c1, c2, c3, c4⟩ := hP
    have H1c : CInv x τ := c1.ci h.2.2.1
    have H2c : CInv x (sAI τ (x + 34) k (nI 2147483647)) := H1c
    have hst : stZ (x + 37) (nI k) (nI 0) (sAI τ (x + 34) k (nI 2147483647)) = some (sAI (sAI τ (x + 34) k (nI 2147483647)) (x + 37) k (nI 0)) := xs_37 H2c hk (Or.inl rfl)
    refine ⟨_, ?_, (c1.ai (k := 34) (by omega) k (nI 2147483647)).ai (k := 37) (by omega) k (nI 0), c2, fun i c hi => ?_, fun i hi => ?_⟩
    · show f_X0_leastCost_L6 x (bI (decide (wh = 1))) (nI k) τ = _
      unfold f_X0_leastCost_L6
      simp (disch := first | exact H1c | exact H2c | omega) [xr_0_0, xr_1_0, xr_5_0, xr_6_0, xr_10_0, xr_11_0, xr_13_0, xr_14_0, xr_15_0, xr_16_0, xr_17_0, xr_19_0, xr_20_0, xr_21_0, xr_23_0, xr_25_0, xr_26_0, xr_400_9, xr_501_10, xr_502_10, xr_501_25, xr_502_25, xr_700_20, xr_701_20, xr_702_20, xr_703_20, xr_700_39, xr_701_39, xr_702_39, xr_703_39, xr_800_44, xr_501_45, xr_502_45, xi_0, xp_0, xv_0, xi_9, xp_9, xv_9, xi_10, xp_10, xv_10, xi_25, xp_25, xv_25, xi_45, xp_45, xv_45, xi_20, xp_20, xv_20, xi_39, xp_39, xv_39, xi_44, xp_44, xv_44, xl_17, xs_17, xl_18, xs_18, xl_21, xs_21, xl_22, xs_22, xl_23, xs_23, xl_24, xs_24, xl_32, xs_32, xl_33, xs_33, xl_34, xs_34, xl_35, xs_35, xl_36, xs_36, xl_37, xs_37, xl_38, xs_38, xl_40, xs_40, xl_41, xs_41, xl_42, xs_42, xl_43, xs_43, xl_52, xs_52, xl_53, xs_53, xl_54, xs_54, xl_55, xs_55, lI, mI_eq, nI_add, pk_mul, nlt, nle, neq, nI_mI, mI_nI, nltm, mltn, nsub, zremN, zdivN, hk, hst]
    · rw [r_AI, if_neg (by omega), r_AI, if_neg (by omega)]
      exact c3 i c hi
    · rw [r_AI, if_neg (by omega), r_AI, r_AI]
      by_cases e : i = k
      · rw [if_pos ⟨rfl, e⟩, if_pos ⟨rfl, e⟩]
        exact ⟨rfl, rfl⟩
      · rw [if_neg (fun hh => e hh.2), if_neg (fun hh => e hh.2), r_AI, if_neg (by omega)]
        exact c4 i (by omega)) (fun τ hP => by
    show f_X0_leastCost_L6 x (bI (decide (wh = 1))) (nI 129600) τ = _
    unfold f_X0_leastCost_L6
    simp (disch := omega) [lI, mI_eq, nI_add, pk_mul, nlt, nle, neq, nI_mI, mI_nI, nltm, mltn, nsub, zremN, zdivN]) τ1 ⟨C1.cy, C1.2.2.2.1, C1.2.2.2.2.2, fun i hi => absurd hi (Nat.not_lt_zero i)⟩
  have H2c : CInv x τ2 := C2.ci h.2.2.1
  have rq0 := bq 0 c0 hs0
  have H3c : CInv x (sAI τ2 (x + 34) (psi T c0) (nI 0)) := H2c
  have hst : stZ (x + 37) (nI (psi T c0)) (nI 1) (sAI τ2 (x + 34) (psi T c0) (nI 0)) = some (sAI (sAI τ2 (x + 34) (psi T c0) (nI 0)) (x + 37) (psi T c0) (nI 1)) := xs_37 H3c hp0 (Or.inr rfl)
  have Q0 : QX x σ t T s.2 0 (upO (fun _ => none) c0 (some 0)) [c0] (sAI (sAI τ2 (x + 34) (psi T c0) (nI 0)) (x + 37) (psi T c0) (nI 1)) := by
    refine ⟨(C2.ai (k := 34) (by omega) _ _).ai (k := 37) (by omega) _ _, fun c hc => ?_, fun k hk hn => ?_, fun c hc => ?_, fun i c hi => ?_, by simp, fun c hc => ?_⟩
    · rw [r_AI, if_neg (by omega), r_AI]
      by_cases e : c = c0
      · rw [e, if_pos ⟨rfl, rfl⟩, upO_at]; rfl
      · rw [if_neg (fun hh => e (psi_inj hT (hLV c hc) hV.1 hh.2)), upO_ne e]
        exact (bf _ (psi_lt hT (hLV c hc))).1
    · rw [r_AI, if_neg (by omega), r_AI, if_neg (fun hh => hn c0 hc0 hh.2.symm)]
      exact (bf k hk).1
    · rw [r_AI]
      by_cases e : c = c0
      · rw [e, if_pos ⟨rfl, rfl⟩, decide_eq_true (by simp)]; rfl
      · rw [if_neg (fun hh => e (psi_inj hT (hLV c hc) hV.1 hh.2)), decide_eq_false (by simpa using e), r_AI, if_neg (by omega)]
        exact (bf _ (psi_lt hT (hLV c hc))).2
    · have hi0 : i = 0 := by
        have := (List.getElem?_eq_some_iff.mp hi).1
        simp at this
        exact this
      subst hi0
      have ec : c0 = c := by simpa using hi
      subst ec
      rw [Nat.zero_add, Nat.zero_mod, r_AI, if_neg (by omega), r_AI, if_neg (by omega)]
      exact rq0
    · have : c = c0 := by simpa using hc
      rw [this]; exact hc0
  have R0 : RI (mwM T (mOt m σ) wh) c0 s.2 (upO (fun _ => none) c0 (some 0)) (fun y => y ∈ [c0]) := by
    have e : (fun y => y ∈ [c0]) = (fun y => y = c0) := by
      funext y
      simp
    rw [e]
    exact RI.start hc0
  -- the ring
  have k2 := loop_gh (body := fun y : (Int32 × Int32 × ZT) => f_X0_leastCost_L66 x (bI (decide (wh = 1))) (nI s.2.length) y.1 y.2.1 y.2.2) (fun (g : (Nat → Option Nat) × List Nat × Nat) (y : Int32 × Int32 × ZT) => y.1 = nI g.2.2 ∧ y.2.1 = nI g.2.1.length ∧ g.2.2 < s.2.length ∧ QX x σ t T s.2 g.2.2 g.1 g.2.1 y.2.2 ∧ RI (mwM T (mOt m σ) wh) c0 s.2 g.1 (fun y => y ∈ g.2.1)) (fun g => cmu g.1 s.2 * 129601 + g.2.1.length) (fun τ => ∃ F fr, QX x σ t T s.2 fr F [] τ ∧ RI (mwM T (mOt m σ) wh) c0 s.2 F (fun _ => False)) (fun g y hI => ?_) (upO (fun _ => none) c0 (some 0), [c0], 0) (nI 0, nI 1, _) ⟨rfl, rfl, hsz, Q0, R0⟩
  · obtain ⟨τ3, d1, F, fr, Q3, R3⟩ := k2
    -- the least of what is done
    have k3 := loop_upN (body := fun y : (Int32 × Int32 × ZT) => f_X0_leastCost_L283 x y.1 y.2.1 y.2.2) 129600 oM (P := fun k b τ => QX x σ t T s.2 fr F [] τ ∧ MinD (fun c => c ∈ s.2 ∧ psi T c < k) F (dn T) b ∧ ∀ u, b = some u → u ≤ 25660602) (fun k hk b τ hP => ?_) (fun b τ hP => ?_) none τ3 ⟨Q3, fun c hc => absurd hc.2 (Nat.not_lt_zero _), fun u hu => by cases hu⟩
    · obtain ⟨r, τ4, e1, Q4, e2, e3⟩ := k3
      have e2' : MinD (fun c => c ∈ s.2) F (dn T) r := e2.congr (fun y => ⟨fun hy => ⟨hy, psi_lt hT (hLV y hy)⟩, fun hy => hy.1⟩)
      refine ⟨r, τ4, F, ?_, Q4.1.1, R3, e2', e3⟩
      unfold f_X0_leastCost f_X0_leastCost_J353
      have d1 : loopC (fun y : (Int32 × Int32 × ZT) => f_X0_leastCost_L66 x (bI (decide (wh = 1))) (nI s.2.length) y.1 y.2.1 y.2.2) (nI 0, nI 1, sAI (sAI τ2 (x + 34) (psi T c0) (nI 0)) (x + 37) (psi T c0) (nI 1)) = some τ3 := d1
      have e1' : loopC (fun y : (Int32 × Int32 × ZT) => f_X0_leastCost_L283 x y.1 y.2.1 y.2.2) (nI 2147483647, nI 0, τ3) = some (oM r, τ4) := e1
      simp (disch := first | exact hx | exact H2c | exact H3c | omega) only [xv_0, a1, bind_s, lI, b1, xr_16_0, xl_35, rq0, xi_0, b18, xr_15_0, xs_34, xr_19_0, hst, d1, e1', mI_eq]
      cases r with
      | none => rfl
      | some v =>
        have := e3 v rfl
        have hne : ¬ nI v = nI 2147483647 := by
          rw [neq (by omega) (by omega)]; omega
        show (if nI v = nI 2147483647 then _ else _) = _
        rw [if_neg hne]
        rfl
    · obtain ⟨Q, hM, hb⟩ := hP
      have H1c : CInv x τ := Q.1.ci h.2.2.1
      have hbb : ∀ u, b = some u → u < 2147483647 := fun u hu => by have := hb u hu; omega
      show ∃ b' τ', f_X0_leastCost_L283 x (oM b) (nI k) τ = some (.inl (oM b', nI (k + 1), τ')) ∧ _
      unfold f_X0_leastCost_L283 f_X0_leastCost_J333_283
      by_cases hex : ∃ c, c ∈ s.2 ∧ psi T c = k
      · obtain ⟨c, hc, ek⟩ := hex
        have rf := Q.2.1 c hc
        rw [ek] at rf
        have hFb : ∀ u, F c = some u → u < 2147483647 := fun u hu => by have := R3.1.bd hBl hc hu; omega
        have hcmp := oM_cmp hFb hbb
        have hS : ∀ y, (y ∈ s.2 ∧ psi T y < k + 1) ↔ ((y ∈ s.2 ∧ psi T y < k) ∨ y = c) := by
          intro y
          constructor
          · rintro ⟨h1, h2⟩
            by_cases e : psi T y = k
            · right
              exact psi_inj hT (hLV y h1) (hLV c hc) (by rw [e, ek])
            · left; exact ⟨h1, by omega⟩
          · rintro (h1 | h1)
            · exact ⟨h1.1, by omega⟩
            · subst h1; exact ⟨hc, by omega⟩
        by_cases hlt : ∃ u, F c = some u ∧ ∀ v, b = some v → u < v
        · rw [show (∃ u, F c = some u ∧ ∀ v, b = some v → u < v) = True from eq_true hlt] at hcmp
          obtain ⟨y, f1, f2⟩ := cy_done Q.1 h.2.2.1 hT (hLV c hc)
          rw [ek] at f1
          have Q2 := Q.cn y
          have H2c : CInv x (CN (x + 32) (x + 33) τ y) := Q2.1.ci h.2.2.1
          have rf2 := Q2.2.1 c hc
          rw [ek] at rf2
          obtain ⟨u, hu, hlt⟩ := hlt
          cases hd : dn T c with
          | false =>
            rw [hd] at f2
            have f2 : f_X5_isDone (x + 25) (CN (x + 32) (x + 33) τ y) = some (nI 0, CN (x + 32) (x + 33) τ y) := f2
            refine ⟨b, _, ?_, Q2, hM.keep hS (fun hD => by rw [hd] at hD; cases hD), hb⟩
            simp (disch := first | exact H1c | exact H2c | omega) [xr_0_0, xr_1_0, xr_5_0, xr_6_0, xr_10_0, xr_11_0, xr_13_0, xr_14_0, xr_15_0, xr_16_0, xr_17_0, xr_19_0, xr_20_0, xr_21_0, xr_23_0, xr_25_0, xr_26_0, xr_400_9, xr_501_10, xr_502_10, xr_501_25, xr_502_25, xr_700_20, xr_701_20, xr_702_20, xr_703_20, xr_700_39, xr_701_39, xr_702_39, xr_703_39, xr_800_44, xr_501_45, xr_502_45, xi_0, xp_0, xv_0, xi_9, xp_9, xv_9, xi_10, xp_10, xv_10, xi_25, xp_25, xv_25, xi_45, xp_45, xv_45, xi_20, xp_20, xv_20, xi_39, xp_39, xv_39, xi_44, xp_44, xv_44, xl_17, xs_17, xl_18, xs_18, xl_21, xs_21, xl_22, xs_22, xl_23, xs_23, xl_24, xs_24, xl_32, xs_32, xl_33, xs_33, xl_34, xs_34, xl_35, xs_35, xl_36, xs_36, xl_37, xs_37, xl_38, xs_38, xl_40, xs_40, xl_41, xs_41, xl_42, xs_42, xl_43, xs_43, xl_52, xs_52, xl_53, xs_53, xl_54, xs_54, xl_55, xs_55, lI, mI_eq, nI_add, pk_mul, nlt, nle, neq, nI_mI, mI_nI, nltm, mltn, nsub, zremN, zdivN, hk, rf, hcmp, f1, f2, bnd2_s]
          | true =>
            rw [hd] at f2
            have f2 : f_X5_isDone (x + 25) (CN (x + 32) (x + 33) τ y) = some (nI 1, CN (x + 32) (x + 33) τ y) := f2
            refine ⟨some u, _, ?_, Q2, hM.take hS hd hu hlt, fun w hw => by cases hw; exact R3.1.bd hBl hc hu⟩
            rw [hu] at rf rf2 hcmp
            simp (disch := first | exact H1c | exact H2c | omega) [xr_0_0, xr_1_0, xr_5_0, xr_6_0, xr_10_0, xr_11_0, xr_13_0, xr_14_0, xr_15_0, xr_16_0, xr_17_0, xr_19_0, xr_20_0, xr_21_0, xr_23_0, xr_25_0, xr_26_0, xr_400_9, xr_501_10, xr_502_10, xr_501_25, xr_502_25, xr_700_20, xr_701_20, xr_702_20, xr_703_20, xr_700_39, xr_701_39, xr_702_39, xr_703_39, xr_800_44, xr_501_45, xr_502_45, xi_0, xp_0, xv_0, xi_9, xp_9, xv_9, xi_10, xp_10, xv_10, xi_25, xp_25, xv_25, xi_45, xp_45, xv_45, xi_20, xp_20, xv_20, xi_39, xp_39, xv_39, xi_44, xp_44, xv_44, xl_17, xs_17, xl_18, xs_18, xl_21, xs_21, xl_22, xs_22, xl_23, xs_23, xl_24, xs_24, xl_32, xs_32, xl_33, xs_33, xl_34, xs_34, xl_35, xs_35, xl_36, xs_36, xl_37, xs_37, xl_38, xs_38, xl_40, xs_40, xl_41, xs_41, xl_42, xs_42, xl_43, xs_43, xl_52, xs_52, xl_53, xs_53, xl_54, xs_54, xl_55, xs_55, lI, mI_eq, nI_add, pk_mul, nlt, nle, neq, nI_mI, mI_nI, nltm, mltn, nsub, zremN, zdivN, hk, rf, rf2, hcmp, f1, f2, bnd2_s]
        · rw [show (∃ u, F c = some u ∧ ∀ v, b = some v → u < v) = False from eq_false hlt] at hcmp
          refine ⟨b, τ, ?_, Q, hM.keep hS (fun hD u hu => ?_), hb⟩
          · simp (disch := first | exact H1c | omega) [xr_0_0, xr_1_0, xr_5_0, xr_6_0, xr_10_0, xr_11_0, xr_13_0, xr_14_0, xr_15_0, xr_16_0, xr_17_0, xr_19_0, xr_20_0, xr_21_0, xr_23_0, xr_25_0, xr_26_0, xr_400_9, xr_501_10, xr_502_10, xr_501_25, xr_502_25, xr_700_20, xr_701_20, xr_702_20, xr_703_20, xr_700_39, xr_701_39, xr_702_39, xr_703_39, xr_800_44, xr_501_45, xr_502_45, xi_0, xp_0, xv_0, xi_9, xp_9, xv_9, xi_10, xp_10, xv_10, xi_25, xp_25, xv_25, xi_45, xp_45, xv_45, xi_20, xp_20, xv_20, xi_39, xp_39, xv_39, xi_44, xp_44, xv_44, xl_17, xs_17, xl_18, xs_18, xl_21, xs_21, xl_22, xs_22, xl_23, xs_23, xl_24, xs_24, xl_32, xs_32, xl_33, xs_33, xl_34, xs_34, xl_35, xs_35, xl_36, xs_36, xl_37, xs_37, xl_38, xs_38, xl_40, xs_40, xl_41, xs_41, xl_42, xs_42, xl_43, xs_43, xl_52, xs_52, xl_53, xs_53, xl_54, xs_54, xl_55, xs_55, lI, mI_eq, nI_add, pk_mul, nlt, nle, neq, nI_mI, mI_nI, nltm, mltn, nsub, zremN, zdivN, hk, rf, hcmp]
          · cases b with
            | none => exact absurd ⟨u, hu, fun v hv => by cases hv⟩ hlt
            | some v =>
              refine ⟨v, rfl, ?_⟩
              by_cases hz : u < v
              · exact absurd ⟨u, hu, fun w hw => by cases hw; exact hz⟩ hlt
              · omega
      · have rf := Q.2.2.1 k hk (fun c hc e => hex ⟨c, hc, e⟩)
        have hcmp := oM_cmp (a := none) (b := b) (fun u hu => by cases hu) hbb
        have hcmp : (nI 2147483647 < oM b) = False := by
          show (oM none < oM b) = False
          rw [hcmp]
          apply eq_false
          rintro ⟨u, hu, -⟩
          cases hu
        refine ⟨b, τ, ?_, Q, hM.congr (fun y => ?_), hb⟩
        · simp (disch := first | exact H1c | omega) [xr_0_0, xr_1_0, xr_5_0, xr_6_0, xr_10_0, xr_11_0, xr_13_0, xr_14_0, xr_15_0, xr_16_0, xr_17_0, xr_19_0, xr_20_0, xr_21_0, xr_23_0, xr_25_0, xr_26_0, xr_400_9, xr_501_10, xr_502_10, xr_501_25, xr_502_25, xr_700_20, xr_701_20, xr_702_20, xr_703_20, xr_700_39, xr_701_39, xr_702_39, xr_703_39, xr_800_44, xr_501_45, xr_502_45, xi_0, xp_0, xv_0, xi_9, xp_9, xv_9, xi_10, xp_10, xv_10, xi_25, xp_25, xv_25, xi_45, xp_45, xv_45, xi_20, xp_20, xv_20, xi_39, xp_39, xv_39, xi_44, xp_44, xv_44, xl_17, xs_17, xl_18, xs_18, xl_21, xs_21, xl_22, xs_22, xl_23, xs_23, xl_24, xs_24, xl_32, xs_32, xl_33, xs_33, xl_34, xs_34, xl_35, xs_35, xl_36, xs_36, xl_37, xs_37, xl_38, xs_38, xl_40, xs_40, xl_41, xs_41, xl_42, xs_42, xl_43, xs_43, xl_52, xs_52, xl_53, xs_53, xl_54, xs_54, xl_55, xs_55, lI, mI_eq, nI_add, pk_mul, nlt, nle, neq, nI_mI, mI_nI, nltm, mltn, nsub, zremN, zdivN, hk, rf, hcmp]
        · constructor
          · rintro ⟨h1, h2⟩
            refine ⟨h1, ?_⟩
            by_cases e : psi T y = k
            · exact absurd ⟨y, h1, e⟩ hex
            · omega
          · rintro ⟨h1, h2⟩
            exact ⟨h1, by omega⟩
    · show f_X0_leastCost_L283 x (oM b) (nI 129600) τ = _
      unfold f_X0_leastCost_L283
      simp (disch := omega) [lI, mI_eq, nI_add, pk_mul, nlt, nle, neq, nI_mI, mI_nI, nltm, mltn, nsub, zremN, zdivN]
  · obtain ⟨F, W, fr⟩ := g
    obtain ⟨i1, i2, τ⟩ := y
    obtain ⟨e1, e2, hfr, Q, R⟩ := hI
    have e1 : i1 = nI fr := e1
    have e2 : i2 = nI W.length := e2
    have hfr : fr < s.2.length := hfr
    have Q : QX x σ t T s.2 fr F W τ := Q
    have R : RI (mwM T (mOt m σ) wh) c0 s.2 F (fun y => y ∈ W) := R
    subst e1 e2
    have H1c : CInv x τ := Q.1.ci h.2.2.1
    show ∃ y, f_X0_leastCost_L66 x (bI (decide (wh = 1))) (nI s.2.length) (nI fr) (nI W.length) τ = some y ∧ _
    unfold f_X0_leastCost_L66 f_X0_leastCost_J96_66
    cases W with
    | nil =>
      refine ⟨.inr τ, rfl, F, fr, Q, R.1, fun y hy _ => R.2.1 y hy (by simp), fun y hy => hy.elim⟩
    | cons c W =>
      have hfr : fr < s.2.length := hfr
      have Q : QX x σ t T s.2 fr F (c :: W) τ := Q
      have R : RI (mwM T (mOt m σ) wh) c0 s.2 F (fun y => y ∈ c :: W) := R
      have hcL : c ∈ s.2 := Q.2.2.2.2.2.2 c List.mem_cons_self
      have hnd := List.nodup_cons.mp Q.2.2.2.2.2.1
      have hWl : W.length < s.2.length := by
        have := List.Nodup.length_le_of_subset Q.2.2.2.2.2.1 (l₂ := s.2) (fun y hy => Q.2.2.2.2.2.2 y hy)
        simp at this
        omega
      have hpc := psi_lt hT (hLV c hcL)
      have rq := Q.2.2.2.2.1 0 c rfl
      rw [show (fr + 0) % s.2.length = fr from Nat.mod_eq_of_lt hfr] at rq
      have hFc : ∃ v, F c = some v := Option.ne_none_iff_exists'.mp (R.2.2 c List.mem_cons_self).2
      -- the place behind
      have hfr2 : ∃ fr', fr' < s.2.length ∧ (if fr + 1 = s.2.length then nI 0 else nI fr + nI 1) = nI fr' ∧ ∀ i, (fr' + i) % s.2.length = (fr + (i + 1)) % s.2.length := by
        by_cases e : fr + 1 = s.2.length
        · refine ⟨0, hsz, by rw [if_pos e], fun i => ?_⟩
          rw [show fr + (i + 1) = s.2.length + i by omega, Nat.add_mod_left, Nat.zero_add]
        · refine ⟨fr + 1, by omega, by rw [if_neg e]; simp (disch := omega) only [lI, mI_eq, nI_add, pk_mul, nlt, nle, neq, nI_mI, mI_nI, nltm, mltn, nsub, zremN, zdivN], fun i => ?_⟩
          rw [show fr + 1 + i = fr + (i + 1) by omega]
      obtain ⟨fr', hf1, hf2, hf3⟩ := hfr2
      have Q' : QX x σ t T s.2 fr' F W (sAI τ (x + 37) (psi T c) (nI 0)) := by
        refine ⟨Q.1.ai (by omega) _ _, fun d hd => ?_, fun k hk hn => ?_, fun d hd => ?_, fun i d hi => ?_, hnd.2, fun d hd => Q.2.2.2.2.2.2 d (List.mem_cons_of_mem _ hd)⟩
        · rw [r_AI, if_neg (by omega)]; exact Q.2.1 d hd
        · rw [r_AI, if_neg (by omega)]; exact Q.2.2.1 k hk hn
        · rw [r_AI]
          by_cases e : d = c
          · rw [e, if_pos ⟨rfl, rfl⟩, decide_eq_false hnd.1]; rfl
          · rw [if_neg (fun hh => e (psi_inj hT (hLV d hd) (hLV c hcL) hh.2)), Q.2.2.2.1 d hd]
            congr 1
            simp [e]
        · rw [hf3 i, r_AI, if_neg (by omega)]
          exact Q.2.2.2.2.1 (i + 1) d hi
      have RX0 : RX (mwM T (mOt m σ) wh) c0 s.2 F (fun y => y ∈ W) c 0 := R.pop (fun y hy => List.mem_cons_of_mem _ hy) (fun y hn hy => by
        rcases List.mem_cons.mp hy with e | e
        · exact absurd e hn
        · exact e)
      obtain ⟨F', W', τ', g1, g2, g3, g4⟩ := p_relax h hl wh hwh hBl hLV (fun c hc v hv c' e => hcls hc (List.mem_map.mpr ⟨v, hv, rfl⟩) e) hf1 hcL hFc hnd.1 Q' RX0
      have hst : stZ (x + 37) (nI (psi T c)) (nI 0) τ = some (sAI τ (x + 37) (psi T c) (nI 0)) := xs_37 H1c hpc (Or.inl rfl)
      have hW'l : W'.length ≤ s.2.length := List.Nodup.length_le_of_subset g2.2.2.2.2.2.1 (l₂ := s.2) (fun y hy => g2.2.2.2.2.2.2 y hy)
      refine ⟨.inl (nI fr', nI W'.length, τ'), ?_, (F', W', fr'), ⟨rfl, rfl, hf1, g2, g3⟩, ?_⟩
      · have hpos : nI 0 < nI (c :: W).length := by
          rw [nlt (by decide) (by simp; omega)]; simp
        have hdn : nI (c :: W).length + mI = nI W.length := by
          rw [n_dn, List.length_cons, dI_s]
        have hf2' : (nI fr + nI 1 = nI s.2.length) = (fr + 1 = s.2.length) := by simp (disch := omega) only [lI, mI_eq, nI_add, pk_mul, nlt, nle, neq, nI_mI, mI_nI, nltm, mltn, nsub, zremN, zdivN]
        by_cases e : fr + 1 = s.2.length
        · rw [if_pos e] at hf2
          rw [← hf2] at g1 ⊢
          simp (disch := first | exact H1c | omega) only [lI, mI_eq, hpos, if_true, xr_16_0, bind_s, xl_35, rq, hf2', e, xr_19_0, hst, hdn, g1]
        · rw [if_neg e] at hf2
          rw [← hf2] at g1 ⊢
          simp (disch := first | exact H1c | omega) only [lI, mI_eq, hpos, if_true, xr_16_0, bind_s, xl_35, rq, hf2', e, if_false, xr_19_0, hst, hdn, g1]
      · show cmu F' s.2 * 129601 + W'.length < cmu F s.2 * 129601 + (c :: W).length
        rw [List.length_cons]
        rcases g4 with g4 | ⟨g4, g5⟩
        · omega
        · rw [g4, g5]; omega
end
