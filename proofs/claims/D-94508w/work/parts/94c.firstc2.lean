set_option maxRecDepth 100000
theorem loop_findI {α R : Type} {body : (Int32 × ZT) → Option ((Int32 × ZT) ⊕ (R ⊕ ZT))} {L : List α} (pd : α → Prop) {P : ZT → Prop} {Q : Nat → R → Prop} (hn : ∀ j v, L[j]? = some v → ¬ pd v → ∀ τ, P τ → ∃ τ', body (nI j, τ) = some (.inl (nI (j + 1), τ')) ∧ P τ') (hy : ∀ j v, L[j]? = some v → pd v → ∀ τ, P τ → ∃ o, body (nI j, τ) = some (.inr (.inl o)) ∧ Q j o) (hex : ∃ v, v ∈ L ∧ pd v) : ∀ τ, P τ → ∃ j v o, L[j]? = some v ∧ pd v ∧ (∀ i v', i < j → L[i]? = some v' → ¬ pd v') ∧ loopC body (nI 0, τ) = some (.inl o) ∧ Q j o := by
  have key : ∀ d n, n + d = L.length → (∀ i v', i < n → L[i]? = some v' → ¬ pd v') → ∀ τ, P τ → ∃ j v o, L[j]? = some v ∧ pd v ∧ (∀ i v', i < j → L[i]? = some v' → ¬ pd v') ∧ loopC body (nI n, τ) = some (.inl o) ∧ Q j o := by
    intro d
    induction d with
    | zero =>
      intro n hn hb τ hP
      obtain ⟨v, h1, h2⟩ := hex
      obtain ⟨i, hi⟩ := List.mem_iff_getElem?.mp h1
      have := (List.getElem?_eq_some_iff.mp hi).1
      exact absurd h2 (hb i v (by omega) hi)
    | succ d ih =>
      intro n hnd hb τ hP
      have hlt : n < L.length := by omega
      have hv : L[n]? = some L[n] := List.getElem?_eq_getElem hlt
      by_cases hp : pd L[n]
      · obtain ⟨o, h1, h2⟩ := hy n L[n] hv hp τ hP
        refine ⟨n, L[n], o, hv, hp, hb, ?_, h2⟩
        rw [loopC_step, h1]
        rfl
      · obtain ⟨τ1, h1, h2⟩ := hn n L[n] hv hp τ hP
        obtain ⟨j, v, o, g1, g2, g3, g4, g5⟩ := ih (n + 1) (by omega) (fun i v' hi hv' => by
          by_cases e : i = n
          · subst e
            rw [hv] at hv'
            cases hv'
            exact hp
          · exact hb i v' (by omega) hv') τ1 h2
        refine ⟨j, v, o, g1, g2, g3, ?_, g5⟩
        rw [loopC_step, h1]
        exact g4
  intro τ hP
  exact key L.length 0 (by omega) (fun i v' hi => absurd hi (Nat.not_lt_zero i)) τ hP
/-- what the first way may change in all -/
def SQ2 (x m : Nat) (σ σ' : ZT) : Prop := zK σ' = zK σ ∧ zL σ' = zL σ ∧ zAL σ' = zAL σ ∧ zAR σ' = zAR σ ∧ zN σ' = zN σ ∧ (zsz σ' = zsz σ ∧ zbc σ' = zbc σ ∧ zbs σ' = zbs σ) ∧ (∀ f a, ¬ (f = 500 ∧ a = x + 25) → zR σ' f a = zR σ f a) ∧
  (∀ f a, ¬ ((f = 7 ∨ f = 18 ∨ f = 22) ∧ a = x) → ¬ (f = 704 ∧ (a = x + 20 ∨ a = x + 39)) → ¬ (505 = f ∧ a = x + 25) → ¬ ((f = 902 ∨ f = 928 ∨ 933 ≤ f ∧ f ≤ 939) ∧ a = m) → zI σ' f a = zI σ f a) ∧
  ∀ a, ¬ (x + 21 ≤ a ∧ a ≤ x + 24) → ¬ (x + 32 ≤ a ∧ a ≤ x + 43) → ¬ (m + 9 ≤ a ∧ a ≤ m + 18) → zAI σ' a = zAI σ a
section
variable {x m t : Nat} {σ σ' σ'' τ : ZT} {T : Nat → Int32} {B P O : Nat → Nat}
theorem SQ2.trans (h : SQ2 x m σ σ') (g : SQ2 x m σ' σ'') : SQ2 x m σ σ'' := by
  obtain ⟨h1, h2, h3, h4, h5, ⟨h6, h7, h8⟩, h9, h10, h11⟩ := h
  obtain ⟨g1, g2, g3, g4, g5, ⟨g6, g7, g8⟩, g9, g10, g11⟩ := g
  exact ⟨g1.trans h1, g2.trans h2, g3.trans h3, g4.trans h4, g5.trans h5, ⟨g6.trans h6, g7.trans h7, g8.trans h8⟩, fun f a hn => (g9 f a hn).trans (h9 f a hn), fun f a z1 z2 z3 z4 => (g10 f a z1 z2 z3 z4).trans (h10 f a z1 z2 z3 z4), fun a z1 z2 z3 => (g11 a z1 z2 z3).trans (h11 a z1 z2 z3)⟩
theorem SQ.two (h : SQ x m σ σ') : SQ2 x m σ σ' := by
  obtain ⟨h1, h2, h3, h4, h5, h6, h9, h10, h11⟩ := h
  exact ⟨h1, h2, h3, h4, h5, h6, h9, fun f a z1 z2 z3 z4 => h10 f a (by omega) (by omega) z3 (by omega), fun a z1 z2 z3 => h11 a z1 (by omega) (by omega)⟩
theorem SQ2.tell (h : FR (x + 39) 704 704 1 4 σ σ') : SQ2 x m σ σ' := by
  obtain ⟨h1, h2, h3, h4, h5, h6, h7, h8, h9⟩ := h
  exact ⟨h1, h2, h4, h5, h6, h7, fun f a _ => by rw [h3], fun f a z1 z2 z3 z4 => h8 f a (by omega), fun a z1 z2 z3 => h9 a (by omega)⟩
theorem SQ2.row (i : Nat) (v : Int32) : SQ2 x m σ (sAI σ (x + 38) i v) := by
  rw [sAI_r]
  exact ⟨rfl, rfl, rfl, rfl, rfl, ⟨rfl, rfl, rfl⟩, fun _ _ _ => rfl, fun _ _ _ _ _ _ => rfl, fun a z1 z2 z3 => zAIr_ne _ (by omega)⟩
theorem SQ2.s22 (v : Int32) : SQ2 x m σ (sI σ 22 x v) := by
  refine ⟨rfl, rfl, rfl, rfl, rfl, ⟨rfl, rfl, rfl⟩, fun _ _ _ => rfl, fun f a z1 z2 z3 z4 => ?_, fun _ _ _ _ => rfl⟩
  rw [r_II, if_neg (by omega)]
theorem SQ2.ofFR (h : FR m 933 939 9 18 σ σ') : SQ2 x m σ σ' := by
  obtain ⟨h1, h2, h3, h4, h5, h6, h7, h8, h9⟩ := h
  exact ⟨h1, h2, h4, h5, h6, h7, fun f a _ => by rw [h3], fun f a z1 z2 z3 z4 => h8 f a (by omega), fun a z1 z2 z3 => h9 a z3⟩
theorem SQ2.cinv (h : SQ2 x m σ σ') (g : CInv x σ) : CInv x σ' := by
  obtain ⟨h1, h2, h3, h4, h5, h6, h9, h10, h11⟩ := h
  obtain ⟨g1, g2, g3⟩ := g
  refine ⟨by rw [h1, h5]; exact g1, fun k hk => ?_, by rw [h4]; exact g3⟩
  rw [h9 _ _ (fun hh => cRf_ne k hk hh.1)]
  exact g2 k hk
theorem SQ2.minv (h : SQ2 x m σ σ') (g : MInv m σ) : MInv m σ' := by
  obtain ⟨h1, h2, h3, h4, h5, h6, h9, h10, h11⟩ := h
  obtain ⟨g1, g2⟩ := g
  refine ⟨by rw [h1]; exact g1, fun k hk => ?_⟩
  rw [h9 _ _ (fun hh => mFl_ne k hk hh.1), h1, h5]
  exact g2 k hk
theorem SQ2.tr (h : SQ2 x m σ σ') (ht : tOK x t) (hm : t + 2 < m + 9 ∨ m + 18 < t + 2) (g : TR σ t T B P O) : TR σ' t T B P O := by
  obtain ⟨h1, h2, h3, h4, h5, h6, h9, h10, h11⟩ := h
  unfold tOK at ht
  have e2 : zAI σ' (t + 2) = zAI σ (t + 2) := h11 _ (by omega) (by omega) (by omega)
  unfold TR at g ⊢
  rw [h1, h5, h4, e2, h9 604 t (by omega), h9 605 t (by omega), h9 606 t (by omega), h9 607 t (by omega), h9 608 t (by omega)]
  obtain ⟨g1, g2, g3, g4, ⟨g5, g6, g7, g8⟩, ⟨g9, g10, g11, g12⟩, ⟨g13, g14, g15, g16⟩⟩ := g
  refine ⟨g1, fun k hk => by rw [h10 _ _ (by omega) (by omega) (by omega) (by omega)]; exact g2 k hk, g3, g4, ⟨g5, g6, g7, fun b hb => ?_⟩, ⟨g9, g10, g11, fun b hb => ?_⟩, ⟨g13, g14, g15, fun b hb => ?_⟩⟩
  · obtain ⟨y1, y2, y3⟩ := g8 b hb
    exact ⟨y1, y2, fun i hi => by rw [h10 _ _ (by omega) (by omega) (by omega) (by omega)]; exact y3 i hi⟩
  · obtain ⟨y1, y2, y3⟩ := g12 b hb
    exact ⟨y1, y2, fun i hi => by rw [h10 _ _ (by omega) (by omega) (by omega) (by omega)]; exact y3 i hi⟩
  · obtain ⟨y1, y2, y3⟩ := g16 b hb
    exact ⟨y1, y2, fun i hi => by rw [h10 _ _ (by omega) (by omega) (by omega) (by omega)]; exact y3 i hi⟩
theorem SB.ne18 (h : SB x m σ t T B P O) : t + 2 < m + 9 ∨ m + 18 < t + 2 := by
  have h1 := h.2.1
  have h2 := h.2.2.1.2.2.1.2.2.2.1.2.2.1
  have h3 := (h.2.2.2.1.2 17 (by decide)).2.2
  have h3 : zN σ (m + 18) = 129600 := h3
  have hne : t + 2 ≠ m + 18 := fun e => by
    rw [e, h3] at h2
    cases h2
  omega
theorem SB.sq2 (h : SB x m σ t T B P O) (g : SQ2 x m σ σ') : SB x m σ' t T B P O := by
  have h18 := h.ne18
  obtain ⟨h0, hm, ⟨c1, c2, c3, c4⟩, h2, h3, h4, h5, h6, h7, h8, h9, h10⟩ := h
  have g' := g
  obtain ⟨g1, g2, g3, g4, g5, g6, g7, g8, g9⟩ := g
  refine ⟨h0, hm, ⟨g'.cinv c1, by rw [g7 _ _ (by omega)]; exact c2, g'.tr c4 h18 c3, c4⟩, g'.minv h2, by rw [g9 _ (by omega) (by omega) (by omega)]; exact h3, h4, h5, ?_, ?_, ?_, ?_, ?_⟩
  · rw [g9 (x + 17) (by omega) (by omega) (by omega), g9 (x + 18) (by omega) (by omega) (by omega)]; exact h6
  · rw [g8 _ _ (by omega) (by omega) (by omega) (by omega)]; exact h7
  · rw [g8 _ _ (by omega) (by omega) (by omega) (by omega)]; exact h8
  · rw [g8 _ _ (by omega) (by omega) (by omega) (by omega)]; exact h9
  · rw [g8 _ _ (by omega) (by omega) (by omega) (by omega)]; exact h10
theorem HC.r38 (h : HC x σ t T B P O) (n : Nat) (v : Int32) : HC x (sAI σ (x + 38) n v) t T B P O := by
  obtain ⟨h1, h2, h3, h4⟩ := h
  have h5 := h4
  unfold tOK at h5
  refine ⟨h1, h2, ?_, h4⟩
  rw [sAI_r]
  exact h3.air (by omega) _
/-- what a step of the way needs -/
def WI (x : Nat) (t : Nat) (T : Nat → Int32) (B P O : Nat → Nat) (w : Ot) (s : Bf) (D : Nat) (τ : ZT) : Prop := HC x τ t T B P O ∧ zR τ 500 (x + 25) = some t ∧ MLc (x + 20) τ (mvs T) ∧ MLc (x + 39) τ (mvs T) ∧ (∀ c, VM T c → zAI τ (x + 34) (psi T c) = oI (s.1 c)) ∧ (∀ z, z ∈ s.2 → ∃ b, zAI τ (x + 36) (psi T z) = bI b ∧ (b = true ↔ GD T w s D z)) ∧ cOt x τ = w
variable {w : Ot} {s : Bf} {c0 k D cf : Nat}
theorem WI.cn (h : WI x t T B P O w s D τ) (y : St) (n : Nat) (v : Int32) : WI x t T B P O w s D (sAI (CN (x + 32) (x + 33) τ y) (x + 38) n v) := by
  obtain ⟨h1, h2, h3, h4, h5, h6, h7⟩ := h
  have hc : CY x τ t T τ := ⟨FX.refl _, h2, h3⟩
  have hc2 := hc.cn y
  obtain ⟨H1, o1⟩ := hc2.tt h1
  have hne : ∀ a, a ≠ x + 32 → a ≠ x + 33 → a ≠ x + 38 → zAI (sAI (CN (x + 32) (x + 33) τ y) (x + 38) n v) a = zAI τ a := by
    intro a a1 a2 a3
    rw [sAI_r, zAIr_ne _ a3, CN_ne _ a1 a2]
  refine ⟨H1.r38 n v, h2, h3.of rfl (fun k a b => hne _ (by omega) (by omega) (by omega)), h4.of rfl (fun k a b => hne _ (by omega) (by omega) (by omega)), ?_, ?_, h7⟩
  · rw [hne _ (by omega) (by omega) (by omega)]; exact h5
  · rw [hne _ (by omega) (by omega) (by omega)]; exact h6
theorem p_step (hw : WI x t T B P O w (bfsK (msM T w) (b0 c0) k) D τ) (hT : TW T) (hl : (mvs T).length ≤ 92) (hV : VM T c0 ∧ c0 < 129600) (hk : ∀ j, j < k → j < (bfsK (msM T w) (b0 c0) j).2.length) (hf : Fdn T (bfsK (msM T w) (b0 c0) k).2 k cf) (hD : (bfsK (msM T w) (b0 c0) k).1 cf = some D) {c n : Nat} (hc : (bfsK (msM T w) (b0 c0) k).1 c = some n) (hn : n < D) (hlp : lp (msM T w) (dn T) (D - n) c) :
    ∃ i z r, f_X0_step x (nI (psi T c)) (nI n) τ = some (nI (psi T z), sAI (CN (x + 32) (x + 33) τ r) (x + 38) n (nI i)) ∧ Nx T w c (D - n - 1) i z ∧ (bfsK (msM T w) (b0 c0) k).1 z = some (n + 1) ∧ lp (msM T w) (dn T) (D - n - 1) z := by
  obtain ⟨h1, h2, h3, h4, h5, h6, h7⟩ := hw
  have hm := Cl_M hT w
  have hB := (bfsK_inv hm hV k).1
  have hCY : CY x τ t T τ := ⟨FX.refl _, h2, h3⟩
  have hBl := hB.len
  have hcm := (hB.2.1 c).mp (by rw [hc]; simp)
  have hcV := hB.2.2.1 c hcm
  have hDl := hB.2.2.2 cf D hD
  have hstep := @GD.step T w c0 k D cf hT hV hk hf hD c n hc hn
  generalize bfsK (msM T w) (b0 c0) k = s at *
  have cnn : ∀ y y', CN (x + 32) (x + 33) (CN (x + 32) (x + 33) τ y) y' = CN (x + 32) (x + 33) τ y' := fun y y' => CN_CN (by omega) y y'
  have hex : ∃ v, v ∈ mvs T ∧ ∃ z, gM T w v c = some z ∧ lp (msM T w) (dn T) (D - n - 1) z := by
    rw [show D - n = (D - n - 1) + 1 by omega] at hlp
    obtain ⟨f, z, f1, f2, f3⟩ := hlp
    obtain ⟨v, hv, ev⟩ := List.mem_map.mp f1
    rw [← ev] at f2
    exact ⟨v, hv, z, f2, f3⟩
  have key := loop_findI (body := fun y : (Int32 × ZT) => f_X0_step_L2 x (nI (psi T c)) (nI n) y.1 y.2) (L := mvs T) (fun v => ∃ z, gM T w v c = some z ∧ lp (msM T w) (dn T) (D - n - 1) z) (P := fun τ' => ∃ y, τ' = CN (x + 32) (x + 33) τ y) (Q := fun i o => ∃ v z r, (mvs T)[i]? = some v ∧ gM T w v c = some z ∧ lp (msM T w) (dn T) (D - n - 1) z ∧ s.1 z = some (n + 1) ∧ o = (nI (psi T z), sAI (CN (x + 32) (x + 33) τ r) (x + 38) n (nI i))) (fun i v hi hpd τ' hP => ?_) (fun i v hi hpd τ' hP => ?_) hex τ ⟨(zAI τ (x + 32), zAI τ (x + 33)), CN_self.symm⟩
  · obtain ⟨i, v, o, k1, k2, k3, k4, v', z, r, k5, k6, k7, k8, k9⟩ := key
    refine ⟨i, z, r, ?_, ⟨v', k5, k6, k7, fun i' v'' c'' hi' hv'' hc'' hlp' => k3 i' v'' hi' hv'' ⟨c'', hc'', hlp'⟩⟩, k8, k7⟩
    unfold f_X0_step
    simp only [lI, k4, bind_s, k9]
  all_goals obtain ⟨y1, rfl⟩ := hP
  all_goals have hC1 := hCY.cn y1
  all_goals obtain ⟨H1, o1⟩ := hC1.tt h1
  all_goals obtain ⟨y, e1, e2⟩ := cy_mv hC1 h1 hT hl hcV.1 hi
  all_goals rw [h7] at e2
  all_goals rw [cnn] at e1
  all_goals have H3c : CInv x (CN (x + 32) (x + 33) τ y1) := H1.1
  all_goals have H4c : CInv x (CN (x + 32) (x + 33) τ y) := (hCY.cn y).ci h1
  all_goals have r704 := hC1.len
  all_goals have hil := (List.getElem?_eq_some_iff.mp hi).1
  · show ∃ τ', f_X0_step_L2 x (nI (psi T c)) (nI n) (nI i) (CN (x + 32) (x + 33) τ y1) = _ ∧ _
    unfold f_X0_step_L2 f_X0_step_J84_2
    rcases e2 with ⟨g1, g2⟩ | ⟨z, r, g1, g2, g3, g4⟩
    · rw [cnn] at g2
      refine ⟨_, ?_, y, rfl⟩
      simp (disch := first | exact H3c | exact H4c | omega) [xr_0_0, xr_1_0, xr_5_0, xr_6_0, xr_10_0, xr_11_0, xr_13_0, xr_14_0, xr_15_0, xr_16_0, xr_17_0, xr_19_0, xr_20_0, xr_21_0, xr_23_0, xr_25_0, xr_26_0, xr_400_9, xr_501_10, xr_502_10, xr_501_25, xr_502_25, xr_700_20, xr_701_20, xr_702_20, xr_703_20, xr_700_39, xr_701_39, xr_702_39, xr_703_39, xr_800_44, xr_501_45, xr_502_45, xi_0, xp_0, xv_0, xi_9, xp_9, xv_9, xi_10, xp_10, xv_10, xi_25, xp_25, xv_25, xi_45, xp_45, xv_45, xi_20, xp_20, xv_20, xi_39, xp_39, xv_39, xi_44, xp_44, xv_44, xl_17, xs_17, xl_18, xs_18, xl_21, xs_21, xl_22, xs_22, xl_23, xs_23, xl_24, xs_24, xl_32, xs_32, xl_33, xs_33, xl_34, xs_34, xl_35, xs_35, xl_36, xs_36, xl_37, xs_37, xl_38, xs_38, xl_40, xs_40, xl_41, xs_41, xl_42, xs_42, xl_43, xs_43, xl_52, xs_52, xl_53, xs_53, xl_54, xs_54, xl_55, xs_55, lI, mI_eq, nI_add, pk_mul, nlt, nle, neq, nI_mI, mI_nI, nltm, mltn, nsub, zremN, zdivN, r704, hil, e1, g2, bnd2_s]
    · rw [cnn, cnn] at g3
      rw [cnn] at g4
      have H5c : CInv x (CN (x + 32) (x + 33) τ r) := (hCY.cn r).ci h1
      have hlt := psi_lt hT g2
      obtain ⟨-, zm, zi⟩ := hstep (gM_mem hi) g1
      have rz1 : zAI (CN (x + 32) (x + 33) τ r) (x + 34) (psi T z) = oI (s.1 z) := by rw [CN_ne _ (by omega) (by omega)]; exact h5 z g2
      obtain ⟨dz, hdz⟩ := Option.ne_none_iff_exists'.mp ((hB.2.1 z).mpr zm)
      have hdzl := hB.2.2.2 z dz hdz
      rw [hdz] at rz1
      have rz1 : zAI (CN (x + 32) (x + 33) τ r) (x + 34) (psi T z) = nI dz := rz1
      refine ⟨_, ?_, r, rfl⟩
      by_cases edz : dz = n + 1
      · have hng : ¬ GD T w s D z := fun hh => hpd ⟨z, g1, zi.mpr ⟨by rw [hdz, edz], hh⟩⟩
        obtain ⟨b, b1, b2⟩ := h6 z zm
        have hb : b = false := by
          cases b with
          | false => rfl
          | true => exact absurd (b2.mp rfl) hng
        subst hb
        have rg : zAI (CN (x + 32) (x + 33) τ r) (x + 36) (psi T z) = nI 0 := by rw [CN_ne _ (by omega) (by omega)]; exact b1
        simp (disch := first | exact H3c | exact H4c | exact H5c | omega) [xr_0_0, xr_1_0, xr_5_0, xr_6_0, xr_10_0, xr_11_0, xr_13_0, xr_14_0, xr_15_0, xr_16_0, xr_17_0, xr_19_0, xr_20_0, xr_21_0, xr_23_0, xr_25_0, xr_26_0, xr_400_9, xr_501_10, xr_502_10, xr_501_25, xr_502_25, xr_700_20, xr_701_20, xr_702_20, xr_703_20, xr_700_39, xr_701_39, xr_702_39, xr_703_39, xr_800_44, xr_501_45, xr_502_45, xi_0, xp_0, xv_0, xi_9, xp_9, xv_9, xi_10, xp_10, xv_10, xi_25, xp_25, xv_25, xi_45, xp_45, xv_45, xi_20, xp_20, xv_20, xi_39, xp_39, xv_39, xi_44, xp_44, xv_44, xl_17, xs_17, xl_18, xs_18, xl_21, xs_21, xl_22, xs_22, xl_23, xs_23, xl_24, xs_24, xl_32, xs_32, xl_33, xs_33, xl_34, xs_34, xl_35, xs_35, xl_36, xs_36, xl_37, xs_37, xl_38, xs_38, xl_40, xs_40, xl_41, xs_41, xl_42, xs_42, xl_43, xs_43, xl_52, xs_52, xl_53, xs_53, xl_54, xs_54, xl_55, xs_55, lI, mI_eq, nI_add, pk_mul, nlt, nle, neq, nI_mI, mI_nI, nltm, mltn, nsub, zremN, zdivN, r704, hil, e1, g3, g4, bnd2_s, rz1, edz, rg]
      · simp (disch := first | exact H3c | exact H4c | exact H5c | omega) [xr_0_0, xr_1_0, xr_5_0, xr_6_0, xr_10_0, xr_11_0, xr_13_0, xr_14_0, xr_15_0, xr_16_0, xr_17_0, xr_19_0, xr_20_0, xr_21_0, xr_23_0, xr_25_0, xr_26_0, xr_400_9, xr_501_10, xr_502_10, xr_501_25, xr_502_25, xr_700_20, xr_701_20, xr_702_20, xr_703_20, xr_700_39, xr_701_39, xr_702_39, xr_703_39, xr_800_44, xr_501_45, xr_502_45, xi_0, xp_0, xv_0, xi_9, xp_9, xv_9, xi_10, xp_10, xv_10, xi_25, xp_25, xv_25, xi_45, xp_45, xv_45, xi_20, xp_20, xv_20, xi_39, xp_39, xv_39, xi_44, xp_44, xv_44, xl_17, xs_17, xl_18, xs_18, xl_21, xs_21, xl_22, xs_22, xl_23, xs_23, xl_24, xs_24, xl_32, xs_32, xl_33, xs_33, xl_34, xs_34, xl_35, xs_35, xl_36, xs_36, xl_37, xs_37, xl_38, xs_38, xl_40, xs_40, xl_41, xs_41, xl_42, xs_42, xl_43, xs_43, xl_52, xs_52, xl_53, xs_53, xl_54, xs_54, xl_55, xs_55, lI, mI_eq, nI_add, pk_mul, nlt, nle, neq, nI_mI, mI_nI, nltm, mltn, nsub, zremN, zdivN, r704, hil, e1, g3, g4, bnd2_s, rz1, edz]
  · show ∃ o, f_X0_step_L2 x (nI (psi T c)) (nI n) (nI i) (CN (x + 32) (x + 33) τ y1) = _ ∧ _
    unfold f_X0_step_L2 f_X0_step_J84_2
    obtain ⟨z0, z1, z2⟩ := hpd
    rcases e2 with ⟨g1, g2⟩ | ⟨z, r, g1, g2, g3, g4⟩
    · rw [g1] at z1; cases z1
    · rw [g1] at z1
      have ez : z = z0 := Option.some.inj z1
      subst ez
      rw [cnn, cnn] at g3
      rw [cnn] at g4
      have H5c : CInv x (CN (x + 32) (x + 33) τ r) := (hCY.cn r).ci h1
      have hlt := psi_lt hT g2
      obtain ⟨-, zm, zi⟩ := hstep (gM_mem hi) g1
      obtain ⟨hdz, hgd⟩ := zi.mp z2
      have rz1 : zAI (CN (x + 32) (x + 33) τ r) (x + 34) (psi T z) = oI (s.1 z) := by rw [CN_ne _ (by omega) (by omega)]; exact h5 z g2
      rw [hdz] at rz1
      have rz1 : zAI (CN (x + 32) (x + 33) τ r) (x + 34) (psi T z) = nI (n + 1) := rz1
      obtain ⟨b, b1, b2⟩ := h6 z zm
      have hb : b = true := b2.mpr hgd
      subst hb
      have rg : zAI (CN (x + 32) (x + 33) τ r) (x + 36) (psi T z) = nI 1 := by rw [CN_ne _ (by omega) (by omega)]; exact b1
      refine ⟨_, ?_, v, z, r, hi, g1, z2, hdz, rfl⟩
      simp (disch := first | exact H3c | exact H4c | exact H5c | omega) [xr_0_0, xr_1_0, xr_5_0, xr_6_0, xr_10_0, xr_11_0, xr_13_0, xr_14_0, xr_15_0, xr_16_0, xr_17_0, xr_19_0, xr_20_0, xr_21_0, xr_23_0, xr_25_0, xr_26_0, xr_400_9, xr_501_10, xr_502_10, xr_501_25, xr_502_25, xr_700_20, xr_701_20, xr_702_20, xr_703_20, xr_700_39, xr_701_39, xr_702_39, xr_703_39, xr_800_44, xr_501_45, xr_502_45, xi_0, xp_0, xv_0, xi_9, xp_9, xv_9, xi_10, xp_10, xv_10, xi_25, xp_25, xv_25, xi_45, xp_45, xv_45, xi_20, xp_20, xv_20, xi_39, xp_39, xv_39, xi_44, xp_44, xv_44, xl_17, xs_17, xl_18, xs_18, xl_21, xs_21, xl_22, xs_22, xl_23, xs_23, xl_24, xs_24, xl_32, xs_32, xl_33, xs_33, xl_34, xs_34, xl_35, xs_35, xl_36, xs_36, xl_37, xs_37, xl_38, xs_38, xl_40, xs_40, xl_41, xs_41, xl_42, xs_42, xl_43, xs_43, xl_52, xs_52, xl_53, xs_53, xl_54, xs_54, xl_55, xs_55, lI, mI_eq, nI_add, pk_mul, nlt, nle, neq, nI_mI, mI_nI, nltm, mltn, nsub, zremN, zdivN, r704, hil, e1, g3, g4, bnd2_s, rz1, rg]
end
