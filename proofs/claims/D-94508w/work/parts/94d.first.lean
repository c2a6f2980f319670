set_option maxRecDepth 100000
theorem pk_lp2 {ms : Ms} {c0 : Nat} {D : Nat → Bool} : ∀ {n e c : Nat}, pk ms c0 n c → lp ms D e c → lp ms D (n + e) c0 := by
  intro n
  induction n with
  | zero =>
    intro e c h1 h2
    have h1 : c = c0 := h1
    rw [Nat.zero_add, ← h1]
    exact h2
  | succ n ih =>
    intro e c h1 h2
    obtain ⟨c', f, g1, g2, g3⟩ := h1
    have := ih (e := e + 1) g1 ⟨f, c, g2, g3, h2⟩
    rw [show n + 1 + e = n + (e + 1) by omega]
    exact this
theorem pk_mem {V : Nat → Prop} {N : Nat} {ms : Ms} (hm : Cl V N ms) {c0 K : Nat} (hc : V c0 ∧ c0 < N) (hK : BE ms c0 K) : ∀ {j z : Nat}, pk ms c0 j z → z ∈ (bfsK ms (b0 c0) K).2 := by
  intro j
  induction j with
  | zero =>
    intro z hz
    have hz : z = c0 := hz
    rw [hz]
    exact List.mem_of_getElem? (BE.start hm hc K).1
  | succ j ih =>
    intro z hz
    obtain ⟨c', f, g1, g2, g3⟩ := hz
    exact BE.closed hm hc hK (ih g1) g2 g3
section
variable {x m t : Nat} {σ τ : ZT} {T : Nat → Int32} {B P O : Nat → Nat}
theorem HC.mo39 (h : HC x σ t T B P O) : MoI (x + 39) σ := by
  refine ⟨xk_39 h.1, fun i hi => ?_⟩
  have hi4 : i = 0 ∨ i = 1 ∨ i = 2 ∨ i = 3 := by omega
  rcases hi4 with rfl | rfl | rfl | rfl
  · exact ⟨h.1.2.1 26 (by decide), xk_40 h.1, xn_40 h.1⟩
  · exact ⟨h.1.2.1 27 (by decide), xk_41 h.1, xn_41 h.1⟩
  · exact ⟨h.1.2.1 28 (by decide), xk_42 h.1, xn_42 h.1⟩
  · exact ⟨h.1.2.1 29 (by decide), xk_43 h.1, xn_43 h.1⟩
theorem p_first (h : SB x m σ t T B P O) :
    (∃ τ, f_X0_first x σ = some (mI, sI τ 7 x (nI 6)) ∧ FX x σ τ ∧ ∀ j, ¬ lp (msM T (cOt x σ)) (dn T) j (enc T (nowS T))) ∨
    (∃ D ks τ, D < 129600 ∧ f_X0_first x σ = some (nI D, τ) ∧ SQ2 x m σ τ ∧ zI τ 7 x = nI 0 ∧ WK T (cOt x σ) D (enc T (nowS T)) ks ∧ lp (msM T (cOt x σ)) (dn T) D (enc T (nowS T)) ∧ (∀ j, j < D → ¬ lp (msM T (cOt x σ)) (dn T) j (enc T (nowS T))) ∧ (∀ n k, ks[n]? = some k → zAI τ (x + 38) n = nI k) ∧ MLc (x + 39) τ (mvs T) ∧ zI τ 22 x = nI D) := by
  have hT := h.2.2.2.2.2.1
  have hS := h.2.2.2.2.2.2.1
  have hN := h.2.2.2.2.2.2.2.1
  have x0 : CInv x σ := h.2.2.1.1
  have hV := VM_enc hT hS
  obtain ⟨r, τ1, k, a1, C1, hl, hTn, hr⟩ := p_findDone h.2.2.1 hT hS hN
  have x1 : CInv x τ1 := C1.1.cinv x0
  generalize enc T (nowS T) = c0 at *
  rcases hr with ⟨cf, e1, hf⟩ | ⟨e1, e2, e3⟩
  · right
    have q1 : SQ x m σ (sI τ1 7 x (nI 0)) := (SQ.ofFX C1.1).trans (SQ.st7 _)
    have h1 := h.sq q1
    have eo : cOt x (sI τ1 7 x (nI 0)) = cOt x σ := by
      rw [← (C1.tt h.2.2.1).2]
      unfold cOt
      rw [r_II, if_neg (by omega), r_II, if_neg (by omega), r_II, if_neg (by omega)]
    rw [← eo] at C1 hTn hf ⊢
    have hm := Cl_M hT (cOt x (sI τ1 7 x (nI 0)))
    have hB := (bfsK_inv hm hV k).1
    have hBl := hB.len
    have hcfm := List.mem_of_getElem? hf.1
    have hcfV := hB.2.2.1 cf hcfm
    obtain ⟨D, hD⟩ := Option.ne_none_iff_exists'.mp ((hB.2.1 cf).mpr hcfm)
    have hDl := hB.2.2.2 cf D hD
    have hpcf := psi_lt hT hcfV.1
    have rfar := C1.2.2.2.2.1 cf hcfV.1
    rw [hD] at rfar
    have rfar : zAI τ1 (x + 34) (psi T cf) = nI D := rfar
    have hO := (bfsK_ord hm hV k).2 cf D hf.1 hD
    have hs0 := BE.start hm hV k
    have hlp : lp (msM T (cOt x (sI τ1 7 x (nI 0)))) (dn T) D c0 := pk_lp2 (e := 0) (hO.2.2 cf D hD) hf.2.1
    have hmin : ∀ j, j < D → ¬ lp (msM T (cOt x (sI τ1 7 x (nI 0)))) (dn T) j c0 := by
      intro j hj hlj
      obtain ⟨z, z1, z2⟩ := pk_lp (d := 0) (c0 := c0) rfl hlj
      rw [Nat.zero_add] at z1
      have := bfsK_least hm hV hTn.2 hf.1 hD hf.2.2 z1 z2
      omega
    have hCX : CX x (sI τ1 7 x (nI 0)) t T (bfsK (msM T (cOt x (sI τ1 7 x (nI 0)))) (b0 c0) k) (sI τ1 7 x (nI 0)) := by
      obtain ⟨b1, b2, b3, b4, b5, b6⟩ := C1
      refine ⟨FX.refl _, b2, b3.of ?_ (fun _ _ _ => rfl), ?_, b5, b6⟩
      · rw [r_II, if_neg (by omega)]
      · rw [r_II, if_neg (by omega)]; exact b4
    have hgood := fun {j c τ} => @p_isGood x t (sI τ1 7 x (nI 0)) τ T B P O c0 k D cf h1.2.2.1 hT hl hV hTn.2 hf hD j c
    have hstp2 := fun {τ : ZT} {c n : Nat} (hw : WI x t T B P O (cOt x (sI τ1 7 x (nI 0))) (bfsK (msM T (cOt x (sI τ1 7 x (nI 0)))) (b0 c0) k) D τ) (hc : (bfsK (msM T (cOt x (sI τ1 7 x (nI 0)))) (b0 c0) k).1 c = some n) (hn : n < D) (hlp : lp (msM T (cOt x (sI τ1 7 x (nI 0)))) (dn T) (D - n) c) => p_step hw hT hl hV hTn.2 hf hD hc hn hlp
    -- the good
    have k1 := loop_downI (body := fun y : (Int32 × ZT) => f_X0_first_L42 x (nI D) y.1 y.2) (L := (bfsK (msM T (cOt x (sI τ1 7 x (nI 0)))) (b0 c0) k).2) (P := fun n τ => CX x (sI τ1 7 x (nI 0)) t T (bfsK (msM T (cOt x (sI τ1 7 x (nI 0)))) (b0 c0) k) τ ∧ ∀ i z, n ≤ i → (bfsK (msM T (cOt x (sI τ1 7 x (nI 0)))) (b0 c0) k).2[i]? = some z → ∃ b, zAI τ (x + 36) (psi T z) = bI b ∧ (b = true ↔ GD T (cOt x (sI τ1 7 x (nI 0))) (bfsK (msM T (cOt x (sI τ1 7 x (nI 0)))) (b0 c0) k) D z)) (fun j c hj τ hP => ?_) (fun τ hP => ?_) (sI τ1 7 x (nI 0)) ⟨hCX, fun i z hi hz => by
      have := (List.getElem?_eq_some_iff.mp hz).1
      omega⟩
    · obtain ⟨τ2, b1, C2, b2⟩ := k1
      generalize hw : cOt x (sI τ1 7 x (nI 0)) = w at *
      have H2 := (C2.tt h1.2.2.1).1
      have x2 : CInv x τ2 := H2.1
      have eo2 : cOt x τ2 = w := by rw [(C2.tt h1.2.2.1).2, hw]
      have hok := H2.2.2.2
      unfold tOK at hok
      obtain ⟨τ3, c1, F3, M3, -⟩ := p_tell (mo := x + 39) H2.mo39 H2.2.2.1 (by omega) hT
      have q3 : SQ2 x m τ2 τ3 := SQ2.tell F3
      have q2 : SQ x m (sI τ1 7 x (nI 0)) τ2 := SQ.ofFX C2.1
      have h3 := (h1.sq q2).sq2 q3
      have x3 : CInv x τ3 := h3.2.2.1.1
      have W3 : WI x t T B P O w (bfsK (msM T w) (b0 c0) k) D τ3 := by
        refine ⟨h3.2.2.1, by rw [F3.2.2.1]; exact C2.2.1, C2.2.2.1.of (F3.i (by omega)) (fun i i1 i2 => F3.ai (by omega)), M3, ?_, ?_, ?_⟩
        · rw [F3.ai (by omega)]; exact C2.2.2.2.2.1
        · rw [F3.ai (by omega)]
          intro z hz
          obtain ⟨i, hi⟩ := List.mem_iff_getElem?.mp hz
          exact b2 i z (Nat.zero_le _) hi
        · rw [← eo2]
          unfold cOt
          rw [F3.i (by omega), F3.i (by omega), F3.i (by omega)]
      have rq0 := C2.2.2.2.2.2 0 c0 hs0.1
      have s37 : zI τ3 7 x = nI 0 := by
        rw [F3.i (by omega), C2.1.2.2.2.2.2.2.2.1 7 x (by omega) (by omega), r_II, if_pos ⟨rfl, rfl⟩]
      have k2 := loop_gh (body := fun y : (Int32 × Int32 × ZT) => f_X0_first_L95 x (nI D) y.1 y.2.1 y.2.2) (fun (g : Nat × Nat × List Nat) (y : Int32 × Int32 × ZT) => y.1 = nI (psi T g.2.1) ∧ y.2.1 = nI g.1 ∧ g.1 ≤ D ∧ WI x t T B P O w (bfsK (msM T w) (b0 c0) k) D y.2.2 ∧ (bfsK (msM T w) (b0 c0) k).1 g.2.1 = some g.1 ∧ lp (msM T w) (dn T) (D - g.1) g.2.1 ∧ g.2.2.length = g.1 ∧ (∀ i k, g.2.2[i]? = some k → zAI y.2.2 (x + 38) i = nI k) ∧ (∀ r, WK T w (D - g.1) g.2.1 r → WK T w D c0 (g.2.2 ++ r)) ∧ SQ2 x m τ3 y.2.2 ∧ zI y.2.2 7 x = nI 0) (fun g => D - g.1) (fun τ => ∃ ks, WK T w D c0 ks ∧ (∀ i k, ks[i]? = some k → zAI τ (x + 38) i = nI k) ∧ MLc (x + 39) τ (mvs T) ∧ SQ2 x m τ3 τ ∧ zI τ 7 x = nI 0) (fun g y hI => ?_) (0, c0, []) (nI (psi T c0), nI 0, τ3) ⟨rfl, rfl, Nat.zero_le _, W3, hs0.2, hlp, rfl, fun i k hi => by simp at hi, fun r hr => hr, ⟨rfl, rfl, rfl, rfl, rfl, ⟨rfl, rfl, rfl⟩, fun _ _ _ => rfl, fun _ _ _ _ _ _ => rfl, fun _ _ _ _ => rfl⟩, s37⟩
      · obtain ⟨τ4, d1, ks, d2, d3, d4, d5, d6⟩ := k2
        have q4 : SQ2 x m (sI τ1 7 x (nI 0)) τ4 := (q2.two.trans q3).trans d5
        have x4 : CInv x τ4 := d5.cinv x3
        refine ⟨D, ks, sI τ4 22 x (nI D), by omega, ?_, (q1.two.trans q4).trans (SQ2.s22 _), ?_, d2, hlp, hmin, ?_, d4.of ?_ (fun _ _ _ => rfl), ?_⟩
        · have hge : ¬ nI (psi T cf) < nI 0 := nI_pos (by omega)
          have hgd : ¬ nI D < nI 0 := nI_pos (by omega)
          have hpa := p_answer x1 (nI D)
          rw [if_neg hgd] at hpa
          have r18 : zI (sI τ1 7 x (nI 0)) 18 x = nI (bfsK (msM T w) (b0 c0) k).2.length := hCX.2.2.2.1
          have b1 : loopC (fun y : (Int32 × ZT) => f_X0_first_L42 x (nI D) y.1 y.2) (nI (bfsK (msM T w) (b0 c0) k).2.length - nI 1, sI τ1 7 x (nI 0)) = some τ2 := b1
          have x1' : CInv x (sI τ1 7 x (nI 0)) := x1
          have rfar' : zAI (sI τ1 7 x (nI 0)) (x + 34) (psi T cf) = nI D := rfar
          have hpt := p_town H2
          unfold f_X0_first f_X0_first_J20
          simp (disch := first | exact x0 | exact x1 | exact x1' | exact x2 | exact x3 | exact x4 | omega) only [xv_0, a1, bnd2_s, lI, e1, hge, if_false, xr_15_0, bind_s, xl_34, rfar, hpa, hgd, rfar', xi_0, r18, b1, xr_16_0, xl_35, rq0, xr_21_0, hpt, xv_39, c1, d1, xp_0]
        · rw [r_II, if_neg (by omega)]; exact d6
        · exact d3
        · rw [r_II, if_neg (by omega)]
        · rw [r_II, if_pos ⟨rfl, rfl⟩]
      · obtain ⟨n, c, ks⟩ := g
        obtain ⟨j1, j2, τ⟩ := y
        obtain ⟨g1, g2, g3, g4, g5, g6, g7, g8, g9, g10, g11⟩ := hI
        have g1 : j1 = nI (psi T c) := g1
        have g2 : j2 = nI n := g2
        have g3 : n ≤ D := g3
        have g4 : WI x t T B P O w (bfsK (msM T w) (b0 c0) k) D τ := g4
        have g5 : (bfsK (msM T w) (b0 c0) k).1 c = some n := g5
        have g6 : lp (msM T w) (dn T) (D - n) c := g6
        have g7 : ks.length = n := g7
        have g8 : ∀ i k, ks[i]? = some k → zAI τ (x + 38) i = nI k := g8
        have g9 : ∀ r, WK T w (D - n) c r → WK T w D c0 (ks ++ r) := g9
        have g10 : SQ2 x m τ3 τ := g10
        have g11 : zI τ 7 x = nI 0 := g11
        subst g1 g2
        have x4 : CInv x τ := g4.1.1
        show ∃ y, f_X0_first_L95 x (nI D) (nI (psi T c)) (nI n) τ = some y ∧ _
        unfold f_X0_first_L95
        by_cases hn : n < D
        · obtain ⟨i, z, r, f1, f2, f3, f4⟩ := hstp2 g4 g5 hn g6
          refine ⟨.inl (nI (psi T z), nI (n + 1), sAI (CN (x + 32) (x + 33) τ r) (x + 38) n (nI i)), ?_, (n + 1, z, ks ++ [i]), ⟨rfl, rfl, by show n + 1 ≤ D; omega, g4.cn r n (nI i), f3, ?_, ?_, ?_, ?_, ?_, g11⟩, ?_⟩
          · simp (disch := first | exact x4 | omega) [xr_0_0, xr_1_0, xr_5_0, xr_6_0, xr_10_0, xr_11_0, xr_13_0, xr_14_0, xr_15_0, xr_16_0, xr_17_0, xr_19_0, xr_20_0, xr_21_0, xr_23_0, xr_25_0, xr_26_0, xr_400_9, xr_501_10, xr_502_10, xr_501_25, xr_502_25, xr_700_20, xr_701_20, xr_702_20, xr_703_20, xr_700_39, xr_701_39, xr_702_39, xr_703_39, xr_800_44, xr_501_45, xr_502_45, xi_0, xp_0, xv_0, xi_9, xp_9, xv_9, xi_10, xp_10, xv_10, xi_25, xp_25, xv_25, xi_45, xp_45, xv_45, xi_20, xp_20, xv_20, xi_39, xp_39, xv_39, xi_44, xp_44, xv_44, xl_17, xs_17, xl_18, xs_18, xl_21, xs_21, xl_22, xs_22, xl_23, xs_23, xl_24, xs_24, xl_32, xs_32, xl_33, xs_33, xl_34, xs_34, xl_35, xs_35, xl_36, xs_36, xl_37, xs_37, xl_38, xs_38, xl_40, xs_40, xl_41, xs_41, xl_42, xs_42, xl_43, xs_43, xl_52, xs_52, xl_53, xs_53, xl_54, xs_54, xl_55, xs_55, lI, mI_eq, nI_add, pk_mul, nlt, nle, neq, nI_mI, mI_nI, nltm, mltn, nsub, zremN, zdivN, hn, f1, bnd2_s]
          · show lp _ _ (D - (n + 1)) z
            rw [show D - (n + 1) = D - n - 1 by omega]
            exact f4
          · show (ks ++ [i]).length = n + 1
            rw [List.length_append, g7]; rfl
          · intro j k' hj
            have hj : (ks ++ [i])[j]? = some k' := hj
            show zAI (sAI (CN (x + 32) (x + 33) τ r) (x + 38) n (nI i)) (x + 38) j = nI k'
            rw [r_AI]
            by_cases e : j = n
            · rw [if_pos ⟨rfl, e⟩]
              rw [e, ← g7, List.getElem?_append_right (Nat.le_refl _), Nat.sub_self] at hj
              have : i = k' := by simpa using hj
              rw [this]
            · rw [if_neg (fun hh => e hh.2), CN_ne _ (by omega) (by omega)]
              have hlt := (List.getElem?_eq_some_iff.mp hj).1
              rw [List.length_append, List.length_singleton, g7] at hlt
              rw [List.getElem?_append_left (by omega)] at hj
              exact g8 j k' hj
          · intro r' hr'
            have hr' : WK T w (D - (n + 1)) z r' := hr'
            show WK T w D c0 ((ks ++ [i]) ++ r')
            rw [List.append_assoc]
            refine g9 _ ?_
            rw [show D - n = (D - (n + 1)) + 1 by omega]
            refine ⟨i, z, r', rfl, ?_, hr'⟩
            rw [show D - (n + 1) = D - n - 1 by omega]
            exact f2
          · exact (g10.trans (SQ.ofFX (FX.cn r)).two).trans (SQ2.row n (nI i))
          · show D - (n + 1) < D - n
            omega
        · have en : n = D := by omega
          refine ⟨.inr τ, ?_, ks, ?_, g8, g4.2.2.2.1, g10, g11⟩
          · simp (disch := first | exact x4 | omega) [lI, mI_eq, nI_add, pk_mul, nlt, nle, neq, nI_mI, mI_nI, nltm, mltn, nsub, zremN, zdivN, hn]
          · have := g9 []
            rw [List.append_nil, en, Nat.sub_self] at this
            exact this rfl
    · obtain ⟨hC, hG⟩ := hP
      obtain ⟨b, y, f1, f2⟩ := hgood hj hC hG
      have hcm := List.mem_of_getElem? hj
      have hcV := hB.2.2.1 c hcm
      have hpl := psi_lt hT hcV.1
      have hjl := (List.getElem?_eq_some_iff.mp hj).1
      have H1c : CInv x τ := hC.cy.ci h1.2.2.1
      have hC2 := hC.cn y
      have H2c : CInv x (CN (x + 32) (x + 33) τ y) := hC2.cy.ci h1.2.2.1
      have rq := hC.2.2.2.2.2 j c hj
      have hst : stZ (x + 36) (nI (psi T c)) (bI b) (CN (x + 32) (x + 33) τ y) = some (sAI (CN (x + 32) (x + 33) τ y) (x + 36) (psi T c) (bI b)) := xs_36 H2c hpl (bI_01 _)
      have hge : ¬ nI j < nI 0 := nI_pos (by omega)
      refine ⟨_, ?_, hC2.g36 (psi T c) (bI b), fun i z hi hz => ?_⟩
      · show f_X0_first_L42 x (nI D) (nI j) τ = _
        unfold f_X0_first_L42
        simp (disch := first | exact H1c | exact H2c | omega) [xr_0_0, xr_1_0, xr_5_0, xr_6_0, xr_10_0, xr_11_0, xr_13_0, xr_14_0, xr_15_0, xr_16_0, xr_17_0, xr_19_0, xr_20_0, xr_21_0, xr_23_0, xr_25_0, xr_26_0, xr_400_9, xr_501_10, xr_502_10, xr_501_25, xr_502_25, xr_700_20, xr_701_20, xr_702_20, xr_703_20, xr_700_39, xr_701_39, xr_702_39, xr_703_39, xr_800_44, xr_501_45, xr_502_45, xi_0, xp_0, xv_0, xi_9, xp_9, xv_9, xi_10, xp_10, xv_10, xi_25, xp_25, xv_25, xi_45, xp_45, xv_45, xi_20, xp_20, xv_20, xi_39, xp_39, xv_39, xi_44, xp_44, xv_44, xl_17, xs_17, xl_18, xs_18, xl_21, xs_21, xl_22, xs_22, xl_23, xs_23, xl_24, xs_24, xl_32, xs_32, xl_33, xs_33, xl_34, xs_34, xl_35, xs_35, xl_36, xs_36, xl_37, xs_37, xl_38, xs_38, xl_40, xs_40, xl_41, xs_41, xl_42, xs_42, xl_43, xs_43, xl_52, xs_52, xl_53, xs_53, xl_54, xs_54, xl_55, xs_55, lI, mI_eq, nI_add, pk_mul, nlt, nle, neq, nI_mI, mI_nI, nltm, mltn, nsub, zremN, zdivN, hge, rq, f1, hst, bnd2_s, n_dn]
      · rw [r_AI]
        by_cases e : z = c
        · rw [e, if_pos ⟨rfl, rfl⟩]
          exact ⟨b, rfl, f2⟩
        · have hzV := hB.2.2.1 z (List.mem_of_getElem? hz)
          rw [if_neg (fun hh => e (psi_inj hT hzV.1 hcV.1 hh.2)), CN_ne _ (by omega) (by omega)]
          refine hG i z ?_ hz
          by_cases eij : i = j
          · subst eij
            rw [hj] at hz
            cases hz
            exact absurd rfl e
          · omega
    · show f_X0_first_L42 x (nI D) mI τ = _
      unfold f_X0_first_L42
      rw [if_pos (show mI < 0 by decide)]
  · left
    refine ⟨τ1, ?_, C1.1, fun j hj => ?_⟩
    · have hpa := p_answer x1 mI
      rw [if_pos mlt0] at hpa
      unfold f_X0_first f_X0_first_J20
      simp (disch := first | exact x0 | exact x1 | omega) only [xv_0, a1, bnd2_s, lI, e1, mlt0, if_true, mI_eq, hpa]
    · obtain ⟨z, z1, z2⟩ := pk_lp (d := 0) (c0 := c0) rfl hj
      have := e3 z (pk_mem (Cl_M hT (cOt x σ)) hV e2 z1)
      rw [this] at z2
      cases z2
end
