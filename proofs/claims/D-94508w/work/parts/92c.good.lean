set_option maxRecDepth 100000
theorem loop_any {α : Type} {body : (Int32 × Int32 × ZT) → Option ((Int32 × Int32 × ZT) ⊕ (Int32 × ZT))} {L : List α} {pd : α → Bool} {P : ZT → Prop} (hs : ∀ j v, L[j]? = some v → ∀ τ, P τ → ∃ τ', body (nI 0, nI j, τ) = some (.inl (bI (pd v), nI (j + 1), τ')) ∧ P τ') (hx : ∀ j τ, j ≤ L.length → P τ → body (nI 1, nI j, τ) = some (.inr (nI 1, τ))) (he : ∀ τ, P τ → body (nI 0, nI L.length, τ) = some (.inr (nI 0, τ))) : ∀ τ, P τ → ∃ τ', loopC body (nI 0, nI 0, τ) = some (bI (L.any pd), τ') ∧ P τ' := by
  have key : ∀ (r l : List α), l ++ r = L → ∀ τ, P τ → ∃ τ', loopC body (nI 0, nI l.length, τ) = some (bI (r.any pd), τ') ∧ P τ' := by
    intro r
    induction r with
    | nil =>
      intro l hl τ hP
      rw [List.append_nil] at hl
      subst hl
      refine ⟨τ, ?_, hP⟩
      rw [loopC_step, he τ hP]
      rfl
    | cons v r ih =>
      intro l hl τ hP
      have hlv : L[l.length]? = some v := by rw [← hl]; simp
      obtain ⟨τ1, h1, h2⟩ := hs l.length v hlv τ hP
      rw [List.any_cons]
      cases hpv : pd v with
      | false =>
        rw [hpv] at h1
        obtain ⟨τ2, h3, h4⟩ := ih (l ++ [v]) (by rw [← hl]; simp) τ1 h2
        refine ⟨τ2, ?_, h4⟩
        rw [loopC_step, h1, Bool.false_or]
        rw [List.length_append] at h3
        exact h3
      | true =>
        rw [hpv] at h1
        refine ⟨τ1, ?_, h2⟩
        rw [loopC_step, h1, Bool.true_or]
        show loopC body (nI 1, nI (l.length + 1), τ1) = _
        have hll := (List.getElem?_eq_some_iff.mp hlv).1
        rw [loopC_step, hx (l.length + 1) τ1 (by omega) h2]
        rfl
  exact key L [] rfl
def pdM (T : Nat → Int32) (w : Ot) (G : Nat → Bool) (c : Nat) (v : Mv) : Bool := match gM T w v c with
  | none => false
  | some c' => G c'
theorem glA_any (T : Nat → Int32) (w : Ot) (G : Nat → Bool) (c : Nat) : glA (msM T w) G c = (mvs T).any (pdM T w G c) := by
  unfold glA msM
  rw [List.any_map]
  rfl
def CXG (x : Nat) (σ : ZT) (t : Nat) (T : Nat → Int32) (s : Bf) (G : Nat → Bool) (τ : ZT) : Prop := CX x σ t T s τ ∧ ∀ c, c ∈ s.2 → zAI τ (x + 36) (psi T c) = bI (G c)
def CRG (m : Nat) (σ : ZT) (c0 : Nat) (s : Bf) (G : Nat → Bool) (τ : ZT) : Prop := FR m 933 938 9 17 σ τ ∧ ML m τ (mvs (zAI σ (m + 1))) ∧ zI τ 938 m = nI c0 ∧ zI τ 937 m = nI s.2.length ∧ (∀ i c, s.2[i]? = some c → zAI τ (m + 16) i = nI c) ∧ ∀ c, c ∈ s.2 → zAI τ (m + 17) c = bI (G c)
section
variable {x m t : Nat} {σ τ : ZT} {T : Nat → Int32} {B P O : Nat → Nat} {s : Bf} {G : Nat → Bool}
theorem SB.gm (h : SB x m σ t T B P O) {v : Mv} (hv : v ∈ mvs T) : gM T (cOt x σ) v = gM T (mOt m σ) v := by
  have e := h.ot
  unfold msM at e
  exact List.map_inj_left.mp e v hv
theorem CXG.cn (h : CXG x σ t T s G τ) (y : St) : CXG x σ t T s G (CN (x + 32) (x + 33) τ y) := by
  refine ⟨h.1.cn y, fun c hc => ?_⟩
  rw [CN_ne _ (by omega) (by omega)]
  exact h.2 c hc
theorem CX.g36 (h : CX x σ t T s τ) (i : Nat) (v : Int32) : CX x σ t T s (sAI τ (x + 36) i v) := by
  obtain ⟨h1, h2, h3, h4, h5, h6⟩ := h
  refine ⟨h1.trans (FX.ai (by omega) _ _), h2, h3.of rfl (fun k a b => ?_), h4, fun c hc => ?_, fun i c hi => ?_⟩
  · rw [sAI_r, zAIr_ne _ (by omega)]
  · rw [sAI_r, zAIr_ne _ (by omega)]; exact h5 c hc
  · rw [sAI_r, zAIr_ne _ (by omega)]; exact h6 i c hi
theorem CXG.set (h : CXG x σ t T s G τ) (hT : TW T) (hB : BI (VM T) 129600 s) {c : Nat} (hc : c ∈ s.2) (b : Bool) : CXG x σ t T s (upB G c b) (sAI τ (x + 36) (psi T c) (bI b)) := by
  refine ⟨h.1.g36 _ _, fun y hy => ?_⟩
  rw [r_AI]
  by_cases e : y = c
  · rw [e, if_pos ⟨rfl, rfl⟩, upB_at]
  · rw [if_neg (fun hh => e (psi_inj hT (hB.2.2.1 y hy).1 (hB.2.2.1 c hc).1 hh.2)), upB_ne e]
    exact h.2 y hy
theorem p_leads (h : HC x σ t T B P O) (hT : TW T) (hl : (mvs T).length ≤ 92) (hC : CXG x σ t T s G τ) {c : Nat} (hc : VM T c) (hcl : ∀ v, v ∈ mvs T → ∀ c', gM T (cOt x σ) v c = some c' → c' ∈ s.2) : ∃ τ', f_X0_leadsToGood x (nI (psi T c)) τ = some (bI (glA (msM T (cOt x σ)) G c), τ') ∧ CXG x σ t T s G τ' := by
  have key := loop_find (body := fun y : (Int32 × ZT) => f_X0_leadsToGood_L2 x (nI (psi T c)) y.1 y.2) (L := mvs T) (pd := pdM T (cOt x σ) G c) (P := fun τ => CXG x σ t T s G τ) (Q := fun _ o => o.1 = nI 1 ∧ CXG x σ t T s G o.2) (fun j v hj hpd τ hC => ?_) (fun j v hj hpd τ hC => ?_) (fun τ hC => ?_) τ hC
  · unfold f_X0_leadsToGood
    rw [glA_any]
    rcases key with ⟨k1, τ2, k2, k3⟩ | ⟨v, o, k1, k2, k3, k4⟩
    · refine ⟨τ2, ?_, k3⟩
      have ea : (mvs T).any (pdM T (cOt x σ) G c) = false := by
        rw [List.any_eq_false]
        exact List.find?_eq_none.mp k1
      simp only [lI, k2, bind_s, ea]
      rfl
    · refine ⟨o.2, ?_, k4⟩
      have ea : (mvs T).any (pdM T (cOt x σ) G c) = true := List.any_eq_true.mpr ⟨v, List.mem_of_find?_eq_some k1, List.find?_some k1⟩
      simp only [lI, k2, bind_s, ea]
      show some o = some (nI 1, o.2)
      rw [← k3]
  · obtain ⟨y, e1, e2⟩ := cy_mv hC.1.cy h hT hl hc hj
    have H1c : CInv x τ := hC.1.cy.ci h
    have H2c : CInv x (CN (x + 32) (x + 33) τ y) := (hC.1.cy.cn y).ci h
    have r704 := hC.1.cy.len
    have hjl := (List.getElem?_eq_some_iff.mp hj).1
    show ∃ τ', f_X0_leadsToGood_L2 x (nI (psi T c)) (nI j) τ = _ ∧ _
    unfold f_X0_leadsToGood_L2 f_X0_leadsToGood_J53_2
    rcases e2 with ⟨g1, g2⟩ | ⟨c', r, g1, g2, g3, g4⟩
    · refine ⟨_, ?_, hC.cn y⟩
      simp (disch := first | exact H1c | exact H2c | omega) [xr_0_0, xr_1_0, xr_5_0, xr_6_0, xr_10_0, xr_11_0, xr_13_0, xr_14_0, xr_15_0, xr_16_0, xr_17_0, xr_19_0, xr_20_0, xr_21_0, xr_23_0, xr_25_0, xr_26_0, xr_400_9, xr_501_10, xr_502_10, xr_501_25, xr_502_25, xr_700_20, xr_701_20, xr_702_20, xr_703_20, xr_700_39, xr_701_39, xr_702_39, xr_703_39, xr_800_44, xr_501_45, xr_502_45, xi_0, xp_0, xv_0, xi_9, xp_9, xv_9, xi_10, xp_10, xv_10, xi_25, xp_25, xv_25, xi_45, xp_45, xv_45, xi_20, xp_20, xv_20, xi_39, xp_39, xv_39, xi_44, xp_44, xv_44, xl_17, xs_17, xl_18, xs_18, xl_21, xs_21, xl_22, xs_22, xl_23, xs_23, xl_24, xs_24, xl_32, xs_32, xl_33, xs_33, xl_34, xs_34, xl_35, xs_35, xl_36, xs_36, xl_37, xs_37, xl_38, xs_38, xl_40, xs_40, xl_41, xs_41, xl_42, xs_42, xl_43, xs_43, xl_52, xs_52, xl_53, xs_53, xl_54, xs_54, xl_55, xs_55, lI, mI_eq, nI_add, pk_mul, nlt, nle, neq, nI_mI, mI_nI, nltm, mltn, nsub, zremN, zdivN, r704, hjl, e1, g2, bnd2_s]
    · have H3c : CInv x (CN (x + 32) (x + 33) τ r) := (hC.1.cy.cn r).ci h
      have hg : G c' = false := by
        unfold pdM at hpd
        rw [g1] at hpd
        exact hpd
      have hgd := (hC.cn r).2 c' (hcl v (List.mem_of_getElem? hj) c' g1)
      rw [hg] at hgd
      have hgd : zAI (CN (x + 32) (x + 33) τ r) (x + 36) (psi T c') = nI 0 := hgd
      have hlt := psi_lt hT g2
      refine ⟨_, ?_, hC.cn r⟩
      simp (disch := first | exact H1c | exact H2c | exact H3c | omega) [xr_0_0, xr_1_0, xr_5_0, xr_6_0, xr_10_0, xr_11_0, xr_13_0, xr_14_0, xr_15_0, xr_16_0, xr_17_0, xr_19_0, xr_20_0, xr_21_0, xr_23_0, xr_25_0, xr_26_0, xr_400_9, xr_501_10, xr_502_10, xr_501_25, xr_502_25, xr_700_20, xr_701_20, xr_702_20, xr_703_20, xr_700_39, xr_701_39, xr_702_39, xr_703_39, xr_800_44, xr_501_45, xr_502_45, xi_0, xp_0, xv_0, xi_9, xp_9, xv_9, xi_10, xp_10, xv_10, xi_25, xp_25, xv_25, xi_45, xp_45, xv_45, xi_20, xp_20, xv_20, xi_39, xp_39, xv_39, xi_44, xp_44, xv_44, xl_17, xs_17, xl_18, xs_18, xl_21, xs_21, xl_22, xs_22, xl_23, xs_23, xl_24, xs_24, xl_32, xs_32, xl_33, xs_33, xl_34, xs_34, xl_35, xs_35, xl_36, xs_36, xl_37, xs_37, xl_38, xs_38, xl_40, xs_40, xl_41, xs_41, xl_42, xs_42, xl_43, xs_43, xl_52, xs_52, xl_53, xs_53, xl_54, xs_54, xl_55, xs_55, lI, mI_eq, nI_add, pk_mul, nlt, nle, neq, nI_mI, mI_nI, nltm, mltn, nsub, zremN, zdivN, r704, hjl, e1, g3, g4, hgd, bnd2_s]
  · obtain ⟨y, e1, e2⟩ := cy_mv hC.1.cy h hT hl hc hj
    have H1c : CInv x τ := hC.1.cy.ci h
    have H2c : CInv x (CN (x + 32) (x + 33) τ y) := (hC.1.cy.cn y).ci h
    have r704 := hC.1.cy.len
    have hjl := (List.getElem?_eq_some_iff.mp hj).1
    show ∃ o, f_X0_leadsToGood_L2 x (nI (psi T c)) (nI j) τ = _ ∧ _
    unfold f_X0_leadsToGood_L2 f_X0_leadsToGood_J53_2
    rcases e2 with ⟨g1, g2⟩ | ⟨c', r, g1, g2, g3, g4⟩
    · exfalso
      unfold pdM at hpd
      rw [g1] at hpd
      cases hpd
    · have H3c : CInv x (CN (x + 32) (x + 33) τ r) := (hC.1.cy.cn r).ci h
      have hg : G c' = true := by
        unfold pdM at hpd
        rw [g1] at hpd
        exact hpd
      have hgd := (hC.cn r).2 c' (hcl v (List.mem_of_getElem? hj) c' g1)
      rw [hg] at hgd
      have hgd : zAI (CN (x + 32) (x + 33) τ r) (x + 36) (psi T c') = nI 1 := hgd
      have hlt := psi_lt hT g2
      refine ⟨(nI 1, CN (x + 32) (x + 33) τ r), ?_, rfl, hC.cn r⟩
      simp (disch := first | exact H1c | exact H2c | exact H3c | omega) [xr_0_0, xr_1_0, xr_5_0, xr_6_0, xr_10_0, xr_11_0, xr_13_0, xr_14_0, xr_15_0, xr_16_0, xr_17_0, xr_19_0, xr_20_0, xr_21_0, xr_23_0, xr_25_0, xr_26_0, xr_400_9, xr_501_10, xr_502_10, xr_501_25, xr_502_25, xr_700_20, xr_701_20, xr_702_20, xr_703_20, xr_700_39, xr_701_39, xr_702_39, xr_703_39, xr_800_44, xr_501_45, xr_502_45, xi_0, xp_0, xv_0, xi_9, xp_9, xv_9, xi_10, xp_10, xv_10, xi_25, xp_25, xv_25, xi_45, xp_45, xv_45, xi_20, xp_20, xv_20, xi_39, xp_39, xv_39, xi_44, xp_44, xv_44, xl_17, xs_17, xl_18, xs_18, xl_21, xs_21, xl_22, xs_22, xl_23, xs_23, xl_24, xs_24, xl_32, xs_32, xl_33, xs_33, xl_34, xs_34, xl_35, xs_35, xl_36, xs_36, xl_37, xs_37, xl_38, xs_38, xl_40, xs_40, xl_41, xs_41, xl_42, xs_42, xl_43, xs_43, xl_52, xs_52, xl_53, xs_53, xl_54, xs_54, xl_55, xs_55, lI, mI_eq, nI_add, pk_mul, nlt, nle, neq, nI_mI, mI_nI, nltm, mltn, nsub, zremN, zdivN, r704, hjl, e1, g3, g4, hgd, bnd2_s]
  · have H1c : CInv x τ := hC.1.cy.ci h
    have r704 := hC.1.cy.len
    show f_X0_leadsToGood_L2 x (nI (psi T c)) (nI _) τ = _
    unfold f_X0_leadsToGood_L2
    simp (disch := first | exact H1c | omega) [xr_0_0, xr_1_0, xr_5_0, xr_6_0, xr_10_0, xr_11_0, xr_13_0, xr_14_0, xr_15_0, xr_16_0, xr_17_0, xr_19_0, xr_20_0, xr_21_0, xr_23_0, xr_25_0, xr_26_0, xr_400_9, xr_501_10, xr_502_10, xr_501_25, xr_502_25, xr_700_20, xr_701_20, xr_702_20, xr_703_20, xr_700_39, xr_701_39, xr_702_39, xr_703_39, xr_800_44, xr_501_45, xr_502_45, xi_0, xp_0, xv_0, xi_9, xp_9, xv_9, xi_10, xp_10, xv_10, xi_25, xp_25, xv_25, xi_45, xp_45, xv_45, xi_20, xp_20, xv_20, xi_39, xp_39, xv_39, xi_44, xp_44, xv_44, xl_17, xs_17, xl_18, xs_18, xl_21, xs_21, xl_22, xs_22, xl_23, xs_23, xl_24, xs_24, xl_32, xs_32, xl_33, xs_33, xl_34, xs_34, xl_35, xs_35, xl_36, xs_36, xl_37, xs_37, xl_38, xs_38, xl_40, xs_40, xl_41, xs_41, xl_42, xs_42, xl_43, xs_43, xl_52, xs_52, xl_53, xs_53, xl_54, xs_54, xl_55, xs_55, lI, mI_eq, nI_add, pk_mul, nlt, nle, neq, nI_mI, mI_nI, nltm, mltn, nsub, zremN, zdivN, r704]
/-- the component finds what is good still -/
theorem p_findGood (h : SB x m σ t T B P O) {K : Nat} (hK : BE (msM T (mOt m σ)) (enc T (nowS T)) K) : ∃ τ G, f_X0_findGood x σ = some τ ∧ gfix (msM T (mOt m σ)) (bfsK (msM T (mOt m σ)) (b0 (enc T (nowS T))) K).2 (true, dn T) = some G ∧ CXG x σ t T (bfsK (msM T (mOt m σ)) (b0 (enc T (nowS T))) K) G τ := by
  have hT := h.2.2.2.2.2.1
  have hS := h.2.2.2.2.2.2.1
  obtain ⟨τ1, a1, C1, hl, hB⟩ := h.all hK
  have hV := VM_enc hT hS
  have hcls := fun {c} (hc : c ∈ (bfsK (msM T (mOt m σ)) (b0 (enc T (nowS T))) K).2) => @BE.closed (VM T) 129600 (msM T (mOt m σ)) (Cl_M hT (mOt m σ)) (enc T (nowS T)) K hV hK c hc
  have eot := h.ot
  have hgm := fun {v} => @SB.gm x m t σ T B P O h v
  have hx : CInv x σ := h.2.2.1.1
  generalize bfsK (msM T (mOt m σ)) (b0 (enc T (nowS T))) K = s at *
  have hBl := hB.len
  -- which are done
  have k1 := loop_upI (body := fun y : (Int32 × ZT) => f_X0_findGood_L6 x y.1 y.2) (L := s.2) (P := fun n τ => CX x σ t T s τ ∧ ∀ j c, j < n → s.2[j]? = some c → zAI τ (x + 36) (psi T c) = bI (dn T c)) (fun j c hj τ hC => ?_) (fun τ hC => ?_) τ1 ⟨C1, fun j c hj => absurd hj (Nat.not_lt_zero j)⟩
  · obtain ⟨τ2, b1, C2, b3⟩ := k1
    have C2 : CXG x σ t T s (dn T) τ2 := ⟨C2, fun c hc => by
      obtain ⟨j, hj⟩ := List.mem_iff_getElem?.mp hc
      exact b3 j c (List.getElem?_eq_some_iff.mp hj).1 hj⟩
    -- till nothing changes
    have k2 := loop_gh (body := fun y : (Int32 × ZT) => f_X0_findGood_L53 x y.1 y.2) (fun (g : Bool × (Nat → Bool)) (y : Int32 × ZT) => y.1 = bI g.1 ∧ CXG x σ t T s g.2 y.2 ∧ gfix (msM T (mOt m σ)) s.2 g = gfix (msM T (mOt m σ)) s.2 (true, dn T)) (fun g => 2 * gmu s.2 g.2 + (if g.1 = true then 1 else 0)) (fun τ => ∃ G, gfix (msM T (mOt m σ)) s.2 (true, dn T) = some G ∧ CXG x σ t T s G τ) (fun g y hI => ?_) (true, dn T) (nI 1, τ2) ⟨rfl, C2, rfl⟩
    · obtain ⟨τ3, c1, G, c2, c3⟩ := k2
      refine ⟨τ3, G, ?_, c2, c3⟩
      unfold f_X0_findGood
      simp only [xv_0 hx, a1, bind_s, lI, b1, c1]
    · obtain ⟨i, τ⟩ := y
      obtain ⟨ch, G⟩ := g
      obtain ⟨e1, hC, e2⟩ := hI
      have e1 : i = bI ch := e1
      have hC : CXG x σ t T s G τ := hC
      subst e1
      show ∃ y, f_X0_findGood_L53 x (bI ch) τ = some y ∧ _
      unfold f_X0_findGood_L53
      cases ch with
      | false =>
        refine ⟨.inr τ, rfl, G, ?_, hC⟩
        rw [← e2, gfix_f]
      | true =>
        have H1c : CInv x τ := hC.1.cy.ci h.2.2.1
        have r18 := hC.1.2.2.2.1
        have k3 := loop_downG (body := fun y : (Int32 × Int32 × ZT) => f_X0_findGood_L66 x y.1 y.2.1 y.2.2) (L := s.2) (f := grA (msM T (mOt m σ))) (fun b : Bool × (Nat → Bool) => bI b.1) (P := fun b τ => CXG x σ t T s b.2 τ) (fun j c hj b τ hC => ?_) (fun b τ hC => ?_) (false, G) τ hC
        · obtain ⟨τ4, d1, d2⟩ := k3
          have d1 : loopC (fun y : (Int32 × Int32 × ZT) => f_X0_findGood_L66 x y.1 y.2.1 y.2.2) (nI 0, dI s.2.length, τ) = some (bI (grnd (msM T (mOt m σ)) s.2 G).1, τ4) := d1
          refine ⟨.inl (bI (grnd (msM T (mOt m σ)) s.2 G).1, τ4), ?_, grnd (msM T (mOt m σ)) s.2 G, ⟨rfl, d2, ?_⟩, ?_⟩
          · have hne : ¬ bI true = 0 := by decide
            rw [if_neg hne, xi_0 H1c, bind_s, r18, lI]
            show Option.bind (loopC _ (nI 0, dI s.2.length, τ)) _ = _
            rw [d1]
            rfl
          · rw [← e2, gfix_t]
          · have hmu := grnd_mu (msM T (mOt m σ)) s.2 G
            show 2 * gmu s.2 (grnd (msM T (mOt m σ)) s.2 G).2 + (if (grnd (msM T (mOt m σ)) s.2 G).1 = true then 1 else 0) < 2 * gmu s.2 G + (if true = true then 1 else 0)
            by_cases e : (grnd (msM T (mOt m σ)) s.2 G).1 = true
            · have := hmu.2 e
              rw [if_pos e, if_pos rfl]
              omega
            · rw [if_neg e, if_pos rfl]
              have := hmu.1
              omega
        · obtain ⟨ch, G⟩ := b
          have hC : CXG x σ t T s G τ := hC
          have H1c : CInv x τ := hC.1.cy.ci h.2.2.1
          have hcm := List.mem_of_getElem? hj
          have hcV := hB.2.2.1 c hcm
          have hjl := (List.getElem?_eq_some_iff.mp hj).1
          have rq := hC.1.2.2.2.2.2 j c hj
          have rg := hC.2 c hcm
          have hpl := psi_lt hT hcV.1
          obtain ⟨τ5, f1, f2⟩ := p_leads h.2.2.1 hT hl hC hcV.1 (fun v hv c' e => hcls hcm (List.mem_map.mpr ⟨v, hv, rfl⟩) (by rw [← hgm hv]; exact e))
          rw [eot] at f1
          have H2c : CInv x τ5 := f2.1.cy.ci h.2.2.1
          have rq5 := f2.1.2.2.2.2.2 j c hj
          have hge : ¬ nI j < nI 0 := nI_pos (by omega)
          show ∃ τ', f_X0_findGood_L66 x (bI ch) (nI j) τ = some (.inl (bI (grA (msM T (mOt m σ)) (ch, G) c).1, dI j, τ')) ∧ CXG x σ t T s (grA (msM T (mOt m σ)) (ch, G) c).2 τ'
          unfold f_X0_findGood_L66 f_X0_findGood_J114_66 grA
          cases hgc : G c with
          | true =>
            rw [hgc] at rg
            have rg : zAI τ (x + 36) (psi T c) = nI 1 := rg
            refine ⟨τ, ?_, by rw [if_pos hgc]; exact hC⟩
            rw [if_pos hgc]
            simp (disch := first | exact H1c | omega) [xr_0_0, xr_1_0, xr_5_0, xr_6_0, xr_10_0, xr_11_0, xr_13_0, xr_14_0, xr_15_0, xr_16_0, xr_17_0, xr_19_0, xr_20_0, xr_21_0, xr_23_0, xr_25_0, xr_26_0, xr_400_9, xr_501_10, xr_502_10, xr_501_25, xr_502_25, xr_700_20, xr_701_20, xr_702_20, xr_703_20, xr_700_39, xr_701_39, xr_702_39, xr_703_39, xr_800_44, xr_501_45, xr_502_45, xi_0, xp_0, xv_0, xi_9, xp_9, xv_9, xi_10, xp_10, xv_10, xi_25, xp_25, xv_25, xi_45, xp_45, xv_45, xi_20, xp_20, xv_20, xi_39, xp_39, xv_39, xi_44, xp_44, xv_44, xl_17, xs_17, xl_18, xs_18, xl_21, xs_21, xl_22, xs_22, xl_23, xs_23, xl_24, xs_24, xl_32, xs_32, xl_33, xs_33, xl_34, xs_34, xl_35, xs_35, xl_36, xs_36, xl_37, xs_37, xl_38, xs_38, xl_40, xs_40, xl_41, xs_41, xl_42, xs_42, xl_43, xs_43, xl_52, xs_52, xl_53, xs_53, xl_54, xs_54, xl_55, xs_55, lI, mI_eq, nI_add, pk_mul, nlt, nle, neq, nI_mI, mI_nI, nltm, mltn, nsub, zremN, zdivN, rq, rg, hge, n_dn]
          | false =>
            rw [hgc] at rg
            have rg : zAI τ (x + 36) (psi T c) = nI 0 := rg
            have hgc' : ¬ (ch, G).2 c = true := by show ¬ G c = true; rw [hgc]; decide
            rw [if_neg hgc']
            cases hgl : glA (msM T (mOt m σ)) G c with
            | false =>
              rw [hgl] at f1
              have f1 : f_X0_leadsToGood x (nI (psi T c)) τ = some (nI 0, τ5) := f1
              rw [if_neg (show ¬ false = true by decide)]
              refine ⟨τ5, ?_, f2⟩
              simp (disch := first | exact H1c | exact H2c | omega) [xr_0_0, xr_1_0, xr_5_0, xr_6_0, xr_10_0, xr_11_0, xr_13_0, xr_14_0, xr_15_0, xr_16_0, xr_17_0, xr_19_0, xr_20_0, xr_21_0, xr_23_0, xr_25_0, xr_26_0, xr_400_9, xr_501_10, xr_502_10, xr_501_25, xr_502_25, xr_700_20, xr_701_20, xr_702_20, xr_703_20, xr_700_39, xr_701_39, xr_702_39, xr_703_39, xr_800_44, xr_501_45, xr_502_45, xi_0, xp_0, xv_0, xi_9, xp_9, xv_9, xi_10, xp_10, xv_10, xi_25, xp_25, xv_25, xi_45, xp_45, xv_45, xi_20, xp_20, xv_20, xi_39, xp_39, xv_39, xi_44, xp_44, xv_44, xl_17, xs_17, xl_18, xs_18, xl_21, xs_21, xl_22, xs_22, xl_23, xs_23, xl_24, xs_24, xl_32, xs_32, xl_33, xs_33, xl_34, xs_34, xl_35, xs_35, xl_36, xs_36, xl_37, xs_37, xl_38, xs_38, xl_40, xs_40, xl_41, xs_41, xl_42, xs_42, xl_43, xs_43, xl_52, xs_52, xl_53, xs_53, xl_54, xs_54, xl_55, xs_55, lI, mI_eq, nI_add, pk_mul, nlt, nle, neq, nI_mI, mI_nI, nltm, mltn, nsub, zremN, zdivN, rq, rg, hge, f1, bnd2_s, n_dn]
            | true =>
              rw [hgl] at f1
              have f1 : f_X0_leadsToGood x (nI (psi T c)) τ = some (nI 1, τ5) := f1
              rw [if_pos (show true = true from rfl)]
              have hst : stZ (x + 36) (nI (psi T c)) (nI 1) τ5 = some (sAI τ5 (x + 36) (psi T c) (nI 1)) := xs_36 H2c hpl (Or.inr rfl)
              refine ⟨_, ?_, f2.set hT hB hcm true⟩
              simp (disch := first | exact H1c | exact H2c | omega) [xr_0_0, xr_1_0, xr_5_0, xr_6_0, xr_10_0, xr_11_0, xr_13_0, xr_14_0, xr_15_0, xr_16_0, xr_17_0, xr_19_0, xr_20_0, xr_21_0, xr_23_0, xr_25_0, xr_26_0, xr_400_9, xr_501_10, xr_502_10, xr_501_25, xr_502_25, xr_700_20, xr_701_20, xr_702_20, xr_703_20, xr_700_39, xr_701_39, xr_702_39, xr_703_39, xr_800_44, xr_501_45, xr_502_45, xi_0, xp_0, xv_0, xi_9, xp_9, xv_9, xi_10, xp_10, xv_10, xi_25, xp_25, xv_25, xi_45, xp_45, xv_45, xi_20, xp_20, xv_20, xi_39, xp_39, xv_39, xi_44, xp_44, xv_44, xl_17, xs_17, xl_18, xs_18, xl_21, xs_21, xl_22, xs_22, xl_23, xs_23, xl_24, xs_24, xl_32, xs_32, xl_33, xs_33, xl_34, xs_34, xl_35, xs_35, xl_36, xs_36, xl_37, xs_37, xl_38, xs_38, xl_40, xs_40, xl_41, xs_41, xl_42, xs_42, xl_43, xs_43, xl_52, xs_52, xl_53, xs_53, xl_54, xs_54, xl_55, xs_55, lI, mI_eq, nI_add, pk_mul, nlt, nle, neq, nI_mI, mI_nI, nltm, mltn, nsub, zremN, zdivN, rq, rg, rq5, hge, f1, hst, bnd2_s, n_dn, bI]
        · obtain ⟨ch, G⟩ := b
          show f_X0_findGood_L66 x (bI ch) mI τ = _
          unfold f_X0_findGood_L66
          rw [if_pos (show mI < 0 by decide)]
  · obtain ⟨hC, hd⟩ := hC
    have hcm := List.mem_of_getElem? hj
    have hcV := hB.2.2.1 c hcm
    have hjl := (List.getElem?_eq_some_iff.mp hj).1
    have H1c : CInv x τ := hC.cy.ci h.2.2.1
    obtain ⟨y, e1, e2⟩ := cy_done hC.cy h.2.2.1 hT hcV.1
    have hC2 := hC.cn y
    have H2c : CInv x (CN (x + 32) (x + 33) τ y) := hC2.cy.ci h.2.2.1
    have rq := hC.2.2.2.2.2 j c hj
    have rq2 := hC2.2.2.2.2.2 j c hj
    have r18 := hC.2.2.2.1
    have hpl := psi_lt hT hcV.1
    have hst : stZ (x + 36) (nI (psi T c)) (bI (dn T c)) (CN (x + 32) (x + 33) τ y) = some (sAI (CN (x + 32) (x + 33) τ y) (x + 36) (psi T c) (bI (dn T c))) := xs_36 H2c hpl (bI_01 _)
    refine ⟨sAI (CN (x + 32) (x + 33) τ y) (x + 36) (psi T c) (bI (dn T c)), ?_, hC2.g36 _ _, fun i c' hi hc' => ?_⟩
    · show f_X0_findGood_L6 x (nI j) τ = _
      unfold f_X0_findGood_L6
      simp (disch := first | exact H1c | exact H2c | omega) [xr_0_0, xr_1_0, xr_5_0, xr_6_0, xr_10_0, xr_11_0, xr_13_0, xr_14_0, xr_15_0, xr_16_0, xr_17_0, xr_19_0, xr_20_0, xr_21_0, xr_23_0, xr_25_0, xr_26_0, xr_400_9, xr_501_10, xr_502_10, xr_501_25, xr_502_25, xr_700_20, xr_701_20, xr_702_20, xr_703_20, xr_700_39, xr_701_39, xr_702_39, xr_703_39, xr_800_44, xr_501_45, xr_502_45, xi_0, xp_0, xv_0, xi_9, xp_9, xv_9, xi_10, xp_10, xv_10, xi_25, xp_25, xv_25, xi_45, xp_45, xv_45, xi_20, xp_20, xv_20, xi_39, xp_39, xv_39, xi_44, xp_44, xv_44, xl_17, xs_17, xl_18, xs_18, xl_21, xs_21, xl_22, xs_22, xl_23, xs_23, xl_24, xs_24, xl_32, xs_32, xl_33, xs_33, xl_34, xs_34, xl_35, xs_35, xl_36, xs_36, xl_37, xs_37, xl_38, xs_38, xl_40, xs_40, xl_41, xs_41, xl_42, xs_42, xl_43, xs_43, xl_52, xs_52, xl_53, xs_53, xl_54, xs_54, xl_55, xs_55, lI, mI_eq, nI_add, pk_mul, nlt, nle, neq, nI_mI, mI_nI, nltm, mltn, nsub, zremN, zdivN, r18, hjl, rq, rq2, e1, e2, hst, bnd2_s]
    · rw [r_AI]
      by_cases e : c' = c
      · rw [e, if_pos ⟨rfl, rfl⟩]
      · have hm' := List.mem_of_getElem? hc'
        rw [if_neg (fun hh => e (psi_inj hT (hB.2.2.1 c' hm').1 hcV.1 hh.2)), CN_ne _ (by omega) (by omega)]
        refine hd i c' ?_ hc'
        by_cases eij : i = j
        · subst eij
          rw [hj] at hc'
          cases hc'
          exact absurd rfl e
        · omega
  · have H1c : CInv x τ := hC.1.cy.ci h.2.2.1
    have r18 := hC.1.2.2.2.1
    show f_X0_findGood_L6 x (nI _) τ = _
    unfold f_X0_findGood_L6
    simp (disch := first | exact H1c | omega) [xr_0_0, xr_1_0, xr_5_0, xr_6_0, xr_10_0, xr_11_0, xr_13_0, xr_14_0, xr_15_0, xr_16_0, xr_17_0, xr_19_0, xr_20_0, xr_21_0, xr_23_0, xr_25_0, xr_26_0, xr_400_9, xr_501_10, xr_502_10, xr_501_25, xr_502_25, xr_700_20, xr_701_20, xr_702_20, xr_703_20, xr_700_39, xr_701_39, xr_702_39, xr_703_39, xr_800_44, xr_501_45, xr_502_45, xi_0, xp_0, xv_0, xi_9, xp_9, xv_9, xi_10, xp_10, xv_10, xi_25, xp_25, xv_25, xi_45, xp_45, xv_45, xi_20, xp_20, xv_20, xi_39, xp_39, xv_39, xi_44, xp_44, xv_44, xl_17, xs_17, xl_18, xs_18, xl_21, xs_21, xl_22, xs_22, xl_23, xs_23, xl_24, xs_24, xl_32, xs_32, xl_33, xs_33, xl_34, xs_34, xl_35, xs_35, xl_36, xs_36, xl_37, xs_37, xl_38, xs_38, xl_40, xs_40, xl_41, xs_41, xl_42, xs_42, xl_43, xs_43, xl_52, xs_52, xl_53, xs_53, xl_54, xs_54, xl_55, xs_55, lI, mI_eq, nI_add, pk_mul, nlt, nle, neq, nI_mI, mI_nI, nltm, mltn, nsub, zremN, zdivN, r18]
/-- how many of the queue are good no more -/
def fLo (G : Nat → Bool) (a : Int32) (c : Nat) : Int32 := a + if G c = true then nI 0 else nI 1
/-- how many moves lead to what is good -/
def fSa (T : Nat → Int32) (w : Ot) (G : Nat → Bool) (c0 : Nat) (a : Int32) (v : Mv) : Int32 := a + if pdM T w G c0 v = true then nI 1 else nI 0
theorem p_lost (h : SB x m σ t T B P O) {K : Nat} (hK : BE (msM T (mOt m σ)) (enc T (nowS T)) K) : ∃ τ G, gfix (msM T (mOt m σ)) (bfsK (msM T (mOt m σ)) (b0 (enc T (nowS T))) K).2 (true, dn T) = some G ∧ f_X0_lost x σ = some ((bfsK (msM T (mOt m σ)) (b0 (enc T (nowS T))) K).2.foldl (fLo G) (nI 0), τ) ∧ FX x (sI σ 7 x (nI 0)) τ := by
  have hT := h.2.2.2.2.2.1
  have h1 := h.sq (SQ.st7 (nI 0))
  have hK1 := hK
  rw [← mOt_sq (SQ.st7 (nI 0)) h] at hK1
  obtain ⟨τ1, G, a1, a2, C1⟩ := p_findGood h1 hK1
  rw [mOt_sq (SQ.st7 (nI 0)) h] at C1 a2
  have hB := (bfsK_inv (Cl_M hT (mOt m σ)) (VM_enc hT h.2.2.2.2.2.2.1) K).1
  have x0 : CInv x σ := h.2.2.1.1
  have x1 : CInv x (sI σ 7 x (nI 0)) := h1.2.2.1.1
  have hBl := hB.len
  generalize bfsK (msM T (mOt m σ)) (b0 (enc T (nowS T))) K = s at *
  have key := loop_foldA (body := fun s : (Int32 × Int32 × ZT) => f_X0_lost_L13 x s.1 s.2.1 s.2.2) (L := s.2) (f := fLo G) (P := fun τ => CXG x (sI σ 7 x (nI 0)) t T s G τ) (fun j c hj a τ hC => ?_) (fun a τ hC => ?_) (nI 0) τ1 C1
  · obtain ⟨τ2, b1, b2⟩ := key
    refine ⟨τ2, G, a2, ?_, b2.1.1⟩
    unfold f_X0_lost
    simp (disch := first | exact x0 | exact x1 | omega) only [xp_0, lI, bind_s, xv_0, a1, b1]
  · have hcm := List.mem_of_getElem? hj
    have hpl := psi_lt hT (hB.2.2.1 c hcm).1
    have H1c : CInv x τ := hC.1.cy.ci h1.2.2.1
    have rq := hC.1.2.2.2.2.2 j c hj
    have rg := hC.2 c hcm
    have r18 := hC.1.2.2.2.1
    have hjl := (List.getElem?_eq_some_iff.mp hj).1
    refine ⟨τ, ?_, hC⟩
    show f_X0_lost_L13 x a (nI j) τ = _
    unfold f_X0_lost_L13 f_X0_lost_J41_13 fLo
    cases hg : G c with
    | false =>
      rw [hg] at rg
      have rg : zAI τ (x + 36) (psi T c) = nI 0 := rg
      simp (disch := first | exact H1c | omega) [xr_0_0, xr_1_0, xr_5_0, xr_6_0, xr_10_0, xr_11_0, xr_13_0, xr_14_0, xr_15_0, xr_16_0, xr_17_0, xr_19_0, xr_20_0, xr_21_0, xr_23_0, xr_25_0, xr_26_0, xr_400_9, xr_501_10, xr_502_10, xr_501_25, xr_502_25, xr_700_20, xr_701_20, xr_702_20, xr_703_20, xr_700_39, xr_701_39, xr_702_39, xr_703_39, xr_800_44, xr_501_45, xr_502_45, xi_0, xp_0, xv_0, xi_9, xp_9, xv_9, xi_10, xp_10, xv_10, xi_25, xp_25, xv_25, xi_45, xp_45, xv_45, xi_20, xp_20, xv_20, xi_39, xp_39, xv_39, xi_44, xp_44, xv_44, xl_17, xs_17, xl_18, xs_18, xl_21, xs_21, xl_22, xs_22, xl_23, xs_23, xl_24, xs_24, xl_32, xs_32, xl_33, xs_33, xl_34, xs_34, xl_35, xs_35, xl_36, xs_36, xl_37, xs_37, xl_38, xs_38, xl_40, xs_40, xl_41, xs_41, xl_42, xs_42, xl_43, xs_43, xl_52, xs_52, xl_53, xs_53, xl_54, xs_54, xl_55, xs_55, lI, mI_eq, nI_add, pk_mul, nlt, nle, neq, nI_mI, mI_nI, nltm, mltn, nsub, zremN, zdivN, r18, hjl, rq, rg]
    | true =>
      rw [hg] at rg
      have rg : zAI τ (x + 36) (psi T c) = nI 1 := rg
      simp (disch := first | exact H1c | omega) [xr_0_0, xr_1_0, xr_5_0, xr_6_0, xr_10_0, xr_11_0, xr_13_0, xr_14_0, xr_15_0, xr_16_0, xr_17_0, xr_19_0, xr_20_0, xr_21_0, xr_23_0, xr_25_0, xr_26_0, xr_400_9, xr_501_10, xr_502_10, xr_501_25, xr_502_25, xr_700_20, xr_701_20, xr_702_20, xr_703_20, xr_700_39, xr_701_39, xr_702_39, xr_703_39, xr_800_44, xr_501_45, xr_502_45, xi_0, xp_0, xv_0, xi_9, xp_9, xv_9, xi_10, xp_10, xv_10, xi_25, xp_25, xv_25, xi_45, xp_45, xv_45, xi_20, xp_20, xv_20, xi_39, xp_39, xv_39, xi_44, xp_44, xv_44, xl_17, xs_17, xl_18, xs_18, xl_21, xs_21, xl_22, xs_22, xl_23, xs_23, xl_24, xs_24, xl_32, xs_32, xl_33, xs_33, xl_34, xs_34, xl_35, xs_35, xl_36, xs_36, xl_37, xs_37, xl_38, xs_38, xl_40, xs_40, xl_41, xs_41, xl_42, xs_42, xl_43, xs_43, xl_52, xs_52, xl_53, xs_53, xl_54, xs_54, xl_55, xs_55, lI, mI_eq, nI_add, pk_mul, nlt, nle, neq, nI_mI, mI_nI, nltm, mltn, nsub, zremN, zdivN, r18, hjl, rq, rg]
  · have H1c : CInv x τ := hC.1.cy.ci h1.2.2.1
    have r18 := hC.1.2.2.2.1
    show f_X0_lost_L13 x a (nI _) τ = _
    unfold f_X0_lost_L13
    simp (disch := first | exact H1c | omega) [xr_0_0, xr_1_0, xr_5_0, xr_6_0, xr_10_0, xr_11_0, xr_13_0, xr_14_0, xr_15_0, xr_16_0, xr_17_0, xr_19_0, xr_20_0, xr_21_0, xr_23_0, xr_25_0, xr_26_0, xr_400_9, xr_501_10, xr_502_10, xr_501_25, xr_502_25, xr_700_20, xr_701_20, xr_702_20, xr_703_20, xr_700_39, xr_701_39, xr_702_39, xr_703_39, xr_800_44, xr_501_45, xr_502_45, xi_0, xp_0, xv_0, xi_9, xp_9, xv_9, xi_10, xp_10, xv_10, xi_25, xp_25, xv_25, xi_45, xp_45, xv_45, xi_20, xp_20, xv_20, xi_39, xp_39, xv_39, xi_44, xp_44, xv_44, xl_17, xs_17, xl_18, xs_18, xl_21, xs_21, xl_22, xs_22, xl_23, xs_23, xl_24, xs_24, xl_32, xs_32, xl_33, xs_33, xl_34, xs_34, xl_35, xs_35, xl_36, xs_36, xl_37, xs_37, xl_38, xs_38, xl_40, xs_40, xl_41, xs_41, xl_42, xs_42, xl_43, xs_43, xl_52, xs_52, xl_53, xs_53, xl_54, xs_54, xl_55, xs_55, lI, mI_eq, nI_add, pk_mul, nlt, nle, neq, nI_mI, mI_nI, nltm, mltn, nsub, zremN, zdivN, r18]
theorem p_safe (h : SB x m σ t T B P O) {K : Nat} (hK : BE (msM T (mOt m σ)) (enc T (nowS T)) K) : ∃ τ G, gfix (msM T (mOt m σ)) (bfsK (msM T (mOt m σ)) (b0 (enc T (nowS T))) K).2 (true, dn T) = some G ∧ f_X0_safe x σ = some ((mvs T).foldl (fSa T (mOt m σ) G (enc T (nowS T))) (nI 0), τ) ∧ FX x (sI σ 7 x (nI 0)) τ := by
  have hT := h.2.2.2.2.2.1
  have hV := VM_enc hT h.2.2.2.2.2.2.1
  have h1 := h.sq (SQ.st7 (nI 0))
  have hK1 := hK
  rw [← mOt_sq (SQ.st7 (nI 0)) h] at hK1
  obtain ⟨τ1, G, a1, a2, C1⟩ := p_findGood h1 hK1
  obtain ⟨-, -, -, hl, -⟩ := h1.all hK1
  rw [mOt_sq (SQ.st7 (nI 0)) h] at C1 a2
  have hm := Cl_M hT (mOt m σ)
  have hB := (bfsK_inv hm hV K).1
  have hs0 := (BE.start hm hV K).1
  have hcls := fun {c} (hc : c ∈ (bfsK (msM T (mOt m σ)) (b0 (enc T (nowS T))) K).2) => @BE.closed (VM T) 129600 (msM T (mOt m σ)) hm (enc T (nowS T)) K hV hK c hc
  have x0 : CInv x σ := h.2.2.1.1
  have x1 : CInv x (sI σ 7 x (nI 0)) := h1.2.2.1.1
  have hBl := hB.len
  have hgm : ∀ v, v ∈ mvs T → gM T (cOt x (sI σ 7 x (nI 0))) v = gM T (mOt m σ) v := by
    intro v hv
    have e := h1.ot.trans (mOt_sq (SQ.st7 (nI 0)) h)
    unfold msM at e
    exact List.map_inj_left.mp e v hv
  generalize bfsK (msM T (mOt m σ)) (b0 (enc T (nowS T))) K = s at *
  generalize enc T (nowS T) = c0 at *
  have hpl0 := psi_lt hT hV.1
  have key := loop_foldA (body := fun s : (Int32 × Int32 × ZT) => f_X0_safe_L13 x s.1 s.2.1 s.2.2) (L := mvs T) (f := fSa T (mOt m σ) G c0) (P := fun τ => CXG x (sI σ 7 x (nI 0)) t T s G τ) (fun j v hj a τ hC => ?_) (fun a τ hC => ?_) (nI 0) τ1 C1
  · obtain ⟨τ2, b1, b2⟩ := key
    refine ⟨τ2, G, a2, ?_, b2.1.1⟩
    unfold f_X0_safe
    simp (disch := first | exact x0 | exact x1 | omega) only [xp_0, lI, bind_s, xv_0, a1, b1]
  · have hvm := List.mem_of_getElem? hj
    have H1c : CInv x τ := hC.1.cy.ci h1.2.2.1
    have rq := hC.1.2.2.2.2.2 0 c0 hs0
    have r704 := hC.1.cy.len
    have hjl := (List.getElem?_eq_some_iff.mp hj).1
    obtain ⟨y, e1, e2⟩ := cy_mv hC.1.cy h1.2.2.1 hT hl hV.1 hj
    rw [hgm v hvm] at e2
    have H2c : CInv x (CN (x + 32) (x + 33) τ y) := (hC.1.cy.cn y).ci h1.2.2.1
    show ∃ τ', f_X0_safe_L13 x a (nI j) τ = _ ∧ _
    unfold f_X0_safe_L13 f_X0_safe_J72_13 f_X0_safe_J73_13 fSa pdM
    rcases e2 with ⟨g1, g2⟩ | ⟨c', r, g1, g2, g3, g4⟩
    · refine ⟨_, ?_, hC.cn y⟩
      simp (disch := first | exact H1c | exact H2c | omega) [xr_0_0, xr_1_0, xr_5_0, xr_6_0, xr_10_0, xr_11_0, xr_13_0, xr_14_0, xr_15_0, xr_16_0, xr_17_0, xr_19_0, xr_20_0, xr_21_0, xr_23_0, xr_25_0, xr_26_0, xr_400_9, xr_501_10, xr_502_10, xr_501_25, xr_502_25, xr_700_20, xr_701_20, xr_702_20, xr_703_20, xr_700_39, xr_701_39, xr_702_39, xr_703_39, xr_800_44, xr_501_45, xr_502_45, xi_0, xp_0, xv_0, xi_9, xp_9, xv_9, xi_10, xp_10, xv_10, xi_25, xp_25, xv_25, xi_45, xp_45, xv_45, xi_20, xp_20, xv_20, xi_39, xp_39, xv_39, xi_44, xp_44, xv_44, xl_17, xs_17, xl_18, xs_18, xl_21, xs_21, xl_22, xs_22, xl_23, xs_23, xl_24, xs_24, xl_32, xs_32, xl_33, xs_33, xl_34, xs_34, xl_35, xs_35, xl_36, xs_36, xl_37, xs_37, xl_38, xs_38, xl_40, xs_40, xl_41, xs_41, xl_42, xs_42, xl_43, xs_43, xl_52, xs_52, xl_53, xs_53, xl_54, xs_54, xl_55, xs_55, lI, mI_eq, nI_add, pk_mul, nlt, nle, neq, nI_mI, mI_nI, nltm, mltn, nsub, zremN, zdivN, r704, hjl, rq, e1, g1, g2, bnd2_s]
    · have H3c : CInv x (CN (x + 32) (x + 33) τ r) := (hC.1.cy.cn r).ci h1.2.2.1
      have rg := (hC.cn r).2 c' (hcls (List.mem_of_getElem? hs0) (gM_mem hj) g1)
      have hlt := psi_lt hT g2
      refine ⟨_, ?_, hC.cn r⟩
      cases hg : G c' with
      | false =>
        rw [hg] at rg
        have rg : zAI (CN (x + 32) (x + 33) τ r) (x + 36) (psi T c') = nI 0 := rg
        simp (disch := first | exact H1c | exact H2c | exact H3c | omega) [xr_0_0, xr_1_0, xr_5_0, xr_6_0, xr_10_0, xr_11_0, xr_13_0, xr_14_0, xr_15_0, xr_16_0, xr_17_0, xr_19_0, xr_20_0, xr_21_0, xr_23_0, xr_25_0, xr_26_0, xr_400_9, xr_501_10, xr_502_10, xr_501_25, xr_502_25, xr_700_20, xr_701_20, xr_702_20, xr_703_20, xr_700_39, xr_701_39, xr_702_39, xr_703_39, xr_800_44, xr_501_45, xr_502_45, xi_0, xp_0, xv_0, xi_9, xp_9, xv_9, xi_10, xp_10, xv_10, xi_25, xp_25, xv_25, xi_45, xp_45, xv_45, xi_20, xp_20, xv_20, xi_39, xp_39, xv_39, xi_44, xp_44, xv_44, xl_17, xs_17, xl_18, xs_18, xl_21, xs_21, xl_22, xs_22, xl_23, xs_23, xl_24, xs_24, xl_32, xs_32, xl_33, xs_33, xl_34, xs_34, xl_35, xs_35, xl_36, xs_36, xl_37, xs_37, xl_38, xs_38, xl_40, xs_40, xl_41, xs_41, xl_42, xs_42, xl_43, xs_43, xl_52, xs_52, xl_53, xs_53, xl_54, xs_54, xl_55, xs_55, lI, mI_eq, nI_add, pk_mul, nlt, nle, neq, nI_mI, mI_nI, nltm, mltn, nsub, zremN, zdivN, r704, hjl, rq, e1, g1, g3, g4, rg, hg, bnd2_s]
      | true =>
        rw [hg] at rg
        have rg : zAI (CN (x + 32) (x + 33) τ r) (x + 36) (psi T c') = nI 1 := rg
        simp (disch := first | exact H1c | exact H2c | exact H3c | omega) [xr_0_0, xr_1_0, xr_5_0, xr_6_0, xr_10_0, xr_11_0, xr_13_0, xr_14_0, xr_15_0, xr_16_0, xr_17_0, xr_19_0, xr_20_0, xr_21_0, xr_23_0, xr_25_0, xr_26_0, xr_400_9, xr_501_10, xr_502_10, xr_501_25, xr_502_25, xr_700_20, xr_701_20, xr_702_20, xr_703_20, xr_700_39, xr_701_39, xr_702_39, xr_703_39, xr_800_44, xr_501_45, xr_502_45, xi_0, xp_0, xv_0, xi_9, xp_9, xv_9, xi_10, xp_10, xv_10, xi_25, xp_25, xv_25, xi_45, xp_45, xv_45, xi_20, xp_20, xv_20, xi_39, xp_39, xv_39, xi_44, xp_44, xv_44, xl_17, xs_17, xl_18, xs_18, xl_21, xs_21, xl_22, xs_22, xl_23, xs_23, xl_24, xs_24, xl_32, xs_32, xl_33, xs_33, xl_34, xs_34, xl_35, xs_35, xl_36, xs_36, xl_37, xs_37, xl_38, xs_38, xl_40, xs_40, xl_41, xs_41, xl_42, xs_42, xl_43, xs_43, xl_52, xs_52, xl_53, xs_53, xl_54, xs_54, xl_55, xs_55, lI, mI_eq, nI_add, pk_mul, nlt, nle, neq, nI_mI, mI_nI, nltm, mltn, nsub, zremN, zdivN, r704, hjl, rq, e1, g1, g3, g4, rg, hg, bnd2_s]
  · have H1c : CInv x τ := hC.1.cy.ci h1.2.2.1
    have r704 := hC.1.cy.len
    show f_X0_safe_L13 x a (nI _) τ = _
    unfold f_X0_safe_L13
    simp (disch := first | exact H1c | omega) [xr_0_0, xr_1_0, xr_5_0, xr_6_0, xr_10_0, xr_11_0, xr_13_0, xr_14_0, xr_15_0, xr_16_0, xr_17_0, xr_19_0, xr_20_0, xr_21_0, xr_23_0, xr_25_0, xr_26_0, xr_400_9, xr_501_10, xr_502_10, xr_501_25, xr_502_25, xr_700_20, xr_701_20, xr_702_20, xr_703_20, xr_700_39, xr_701_39, xr_702_39, xr_703_39, xr_800_44, xr_501_45, xr_502_45, xi_0, xp_0, xv_0, xi_9, xp_9, xv_9, xi_10, xp_10, xv_10, xi_25, xp_25, xv_25, xi_45, xp_45, xv_45, xi_20, xp_20, xv_20, xi_39, xp_39, xv_39, xi_44, xp_44, xv_44, xl_17, xs_17, xl_18, xs_18, xl_21, xs_21, xl_22, xs_22, xl_23, xs_23, xl_24, xs_24, xl_32, xs_32, xl_33, xs_33, xl_34, xs_34, xl_35, xs_35, xl_36, xs_36, xl_37, xs_37, xl_38, xs_38, xl_40, xs_40, xl_41, xs_41, xl_42, xs_42, xl_43, xs_43, xl_52, xs_52, xl_53, xs_53, xl_54, xs_54, xl_55, xs_55, lI, mI_eq, nI_add, pk_mul, nlt, nle, neq, nI_mI, mI_nI, nltm, mltn, nsub, zremN, zdivN, r704]
end
