set_option maxRecDepth 100000
section
variable {x m t : Nat} {σ : ZT} {T : Nat → Int32} {B P O : Nat → Nat}
/-- both have gone through a search and told the status v -/
theorem Pr.of (hm : x + 56 ≤ m) {c d : ZT → Option (Int32 × ZT)} {R v : Int32} {τ1 τ2 : ZT} (hc : c σ = some (R, τ1)) (h1 : FX x (sI σ 7 x v) τ1) (hd : d τ1 = some (R, sI τ2 902 m v)) (h2 : FR m 933 938 9 17 τ1 τ2) : Pr x m σ c d := by
  refine ⟨R, τ1, sI τ2 902 m v, hc, hd, (((SQ.st7 v).trans (SQ.ofFX h1)).trans (SQ.ofFR h2)).trans (SQ.st902 v), ?_⟩
  have hne : x ≠ m := by omega
  rw [r_II, if_neg (by omega), r_II, if_pos ⟨rfl, rfl⟩, h2.i (by omega), h1.2.2.2.2.2.2.2.1 7 x (by omega) (by omega), r_II, if_pos ⟨rfl, rfl⟩]
theorem cx_be {s : Bf} {τ : ZT} (hC : CX x σ t T s τ) (h : HC x σ t T B P O) (hT : TW T) {c : Nat} (hV : VM T c) : ∃ y, f_X5_be_2 (x + 25) (nI (psi T c)) τ = some (CN (x + 32) (x + 33) τ y) ∧ Agr T y (dec T c) ∧ CX x σ t T s (CN (x + 32) (x + 33) τ y) ∧ CInv x (CN (x + 32) (x + 33) τ y) ∧ CInv x τ := by
  obtain ⟨H1, o1⟩ := hC.tt h
  have hpl := psi_lt hT hV
  have hbe := p_beN (H1.sp hC.2.1) hT (c := psi T c) (by omega)
  have hC2 := hC.cn (openK T (psi T c) (zAI τ (x + 32), zAI τ (x + 33)))
  exact ⟨_, hbe, (openK_agr T _ _).trans (hV.1.deK hT), hC2, (hC2.tt h).1.1, H1.1⟩
theorem cr_op {c0 : Nat} {s : Bf} {τ : ZT} (hC : CR m σ c0 s τ) (h : MInv m σ) (hT : TW (zAI σ (m + 1))) {c : Nat} (hV : VM (zAI σ (m + 1)) c) : ∃ y, f_X9_opens m (nI c) τ = some (NL m τ y) ∧ Agr (zAI σ (m + 1)) y (dec (zAI σ (m + 1)) c) ∧ CR m σ c0 s (NL m τ y) ∧ MInv m (NL m τ y) ∧ MInv m τ ∧ zAI (NL m τ y) (m + 1) = zAI σ (m + 1) := by
  obtain ⟨i1, i2, i3⟩ := hC.t h
  have hl := VM_lt hT hV
  have ho := q_opens' i1 (by rw [i2]; exact hT) (c := c) (by omega)
  rw [i2] at ho
  refine ⟨_, ho, opened_agr _ _ _, hC.NL _, i1, i1, ?_⟩
  rw [NL_ne _ (by omega) (by omega)]
  exact i2
/-! whom one can be where -/
def fRe (T : Nat → Int32) (p : Nat) (a : Int32) (c : Nat) : Int32 := a ||| (nI 1 <<< ((dec T c).1 p &&& nI 31))
theorem p_reach (h : SB x m σ t T B P O) {K p : Nat} (hK : BE (msM T (mOt m σ)) (enc T (nowS T)) K) (hp : p < fn T 2) : ∃ τ, f_X0_reach x (nI p) σ = some ((bfsK (msM T (mOt m σ)) (b0 (enc T (nowS T))) K).2.foldl (fRe T p) (nI 0), τ) ∧ FX x (sI σ 7 x (nI 0)) τ := by
  have hT := h.2.2.2.2.2.1
  have n4 := hT.2.2.2.1
  have h1 := h.sq (SQ.st7 (nI 0))
  have hK1 := hK
  rw [← mOt_sq (SQ.st7 (nI 0)) h] at hK1
  obtain ⟨τ1, a1, C1, -, hB⟩ := h1.all hK1
  rw [mOt_sq (SQ.st7 (nI 0)) h] at C1 hB
  have x0 : CInv x σ := h.2.2.1.1
  have x1 : CInv x (sI σ 7 x (nI 0)) := h1.2.2.1.1
  have hBl := hB.len
  have key := loop_foldA (body := fun s : (Int32 × Int32 × ZT) => f_X0_reach_L34 x (nI p) s.1 s.2.1 s.2.2) (L := (bfsK (msM T (mOt m σ)) (b0 (enc T (nowS T))) K).2) (f := fRe T p) (P := fun τ => CX x (sI σ 7 x (nI 0)) t T (bfsK (msM T (mOt m σ)) (b0 (enc T (nowS T))) K) τ) (fun j c hj a τ hC => ?_) (fun a τ hC => ?_) (nI 0) τ1 C1
  · obtain ⟨τ2, b1, b2⟩ := key
    refine ⟨τ2, ?_, b2.1⟩
    unfold f_X0_reach f_X0_reach_J14
    have hok : ok (nI p) (fn T 2) = true := ok_nI (by omega) hp
    simp (disch := first | exact x0 | exact x1 | omega) [xv_0, p_isPerson h.2.2.1 hT, hok, bI, bnd2_s, lI, n1n0, xp_0, xi_0, r_II, a1, b1]
  · have hcV := (hB.2.2.1 c (List.mem_of_getElem? hj)).1
    obtain ⟨y, c1, c2, c3, c4, c5⟩ := cx_be hC h1.2.2.1 hT hcV
    have rq := hC.2.2.2.2.2 j c hj
    have r18 := hC.2.2.2.1
    have hjl := (List.getElem?_eq_some_iff.mp hj).1
    refine ⟨CN (x + 32) (x + 33) τ y, ?_, c3⟩
    show f_X0_reach_L34 x (nI p) a (nI j) τ = _
    unfold f_X0_reach_L34 fRe
    simp (disch := first | exact c4 | exact c5 | omega) [xr_0_0, xr_1_0, xr_5_0, xr_6_0, xr_10_0, xr_11_0, xr_13_0, xr_14_0, xr_15_0, xr_16_0, xr_17_0, xr_19_0, xr_20_0, xr_21_0, xr_23_0, xr_25_0, xr_26_0, xr_400_9, xr_501_10, xr_502_10, xr_501_25, xr_502_25, xr_700_20, xr_701_20, xr_702_20, xr_703_20, xr_700_39, xr_701_39, xr_702_39, xr_703_39, xr_800_44, xr_501_45, xr_502_45, xi_0, xp_0, xv_0, xi_9, xp_9, xv_9, xi_10, xp_10, xv_10, xi_25, xp_25, xv_25, xi_45, xp_45, xv_45, xi_20, xp_20, xv_20, xi_39, xp_39, xv_39, xi_44, xp_44, xv_44, xl_17, xs_17, xl_18, xs_18, xl_21, xs_21, xl_22, xs_22, xl_23, xs_23, xl_24, xs_24, xl_32, xs_32, xl_33, xs_33, xl_34, xs_34, xl_35, xs_35, xl_36, xs_36, xl_37, xs_37, xl_38, xs_38, xl_40, xs_40, xl_41, xs_41, xl_42, xs_42, xl_43, xs_43, xl_52, xs_52, xl_53, xs_53, xl_54, xs_54, xl_55, xs_55, lI, mI_eq, nI_add, pk_mul, nlt, nle, neq, nI_mI, mI_nI, nltm, mltn, nsub, zremN, zdivN, r18, hjl, rq, c1, CN_1, c2.1 p hp]
  · obtain ⟨H1, -⟩ := hC.tt h1.2.2.1
    have c5 : CInv x τ := H1.1
    have r18 := hC.2.2.2.1
    show f_X0_reach_L34 x (nI p) a (nI _) τ = _
    unfold f_X0_reach_L34
    simp (disch := first | exact c5 | omega) [xr_0_0, xr_1_0, xr_5_0, xr_6_0, xr_10_0, xr_11_0, xr_13_0, xr_14_0, xr_15_0, xr_16_0, xr_17_0, xr_19_0, xr_20_0, xr_21_0, xr_23_0, xr_25_0, xr_26_0, xr_400_9, xr_501_10, xr_502_10, xr_501_25, xr_502_25, xr_700_20, xr_701_20, xr_702_20, xr_703_20, xr_700_39, xr_701_39, xr_702_39, xr_703_39, xr_800_44, xr_501_45, xr_502_45, xi_0, xp_0, xv_0, xi_9, xp_9, xv_9, xi_10, xp_10, xv_10, xi_25, xp_25, xv_25, xi_45, xp_45, xv_45, xi_20, xp_20, xv_20, xi_39, xp_39, xv_39, xi_44, xp_44, xv_44, xl_17, xs_17, xl_18, xs_18, xl_21, xs_21, xl_22, xs_22, xl_23, xs_23, xl_24, xs_24, xl_32, xs_32, xl_33, xs_33, xl_34, xs_34, xl_35, xs_35, xl_36, xs_36, xl_37, xs_37, xl_38, xs_38, xl_40, xs_40, xl_41, xs_41, xl_42, xs_42, xl_43, xs_43, xl_52, xs_52, xl_53, xs_53, xl_54, xs_54, xl_55, xs_55, lI, mI_eq, nI_add, pk_mul, nlt, nle, neq, nI_mI, mI_nI, nltm, mltn, nsub, zremN, zdivN, r18]
theorem q_reach (h : SB x m σ t T B P O) {K p : Nat} (hK : BE (msM T (mOt m σ)) (enc T (nowS T)) K) (hp : p < fn T 2) : ∃ τ, f_X9_reach m (nI p) σ = some ((bfsK (msM T (mOt m σ)) (b0 (enc T (nowS T))) K).2.foldl (fRe T p) (nI 0), sI τ 902 m (nI 0)) ∧ FR m 933 938 9 17 σ τ := by
  have hT := h.2.2.2.2.2.1
  have n4 := hT.2.2.2.1
  have hm : MInv m σ := h.2.2.2.1
  have eT : zAI σ (m + 1) = T := h.2.2.2.2.1
  obtain ⟨τ1, a1, C1⟩ := h.mall hK
  have hB := (bfsK_inv (Cl_M hT (mOt m σ)) (VM_enc hT h.2.2.2.2.2.2.1) K).1
  have hBl := hB.len
  have key := loop_foldA (body := fun s : (Int32 × Int32 × ZT) => f_X9_reach_L22 m (nI p) s.1 s.2.1 s.2.2) (L := (bfsK (msM T (mOt m σ)) (b0 (enc T (nowS T))) K).2) (f := fRe T p) (P := fun τ => CR m σ (enc T (nowS T)) (bfsK (msM T (mOt m σ)) (b0 (enc T (nowS T))) K) τ) (fun j c hj a τ hC => ?_) (fun a τ hC => ?_) (nI 0) τ1 C1
  · obtain ⟨τ2, b1, b2⟩ := key
    refine ⟨τ2, ?_, b2.1.mono (by omega) (by omega) (by omega) (by omega)⟩
    have m2 : MInv m τ2 := b2.1.inv hm
    have hok : ok (nI p) (fn T 2) = true := ok_nI (by omega) hp
    have hck := q_isPerson hm (by rw [eT]; exact hT) (nI p)
    rw [eT] at hck
    unfold f_X9_reach f_X9_gives
    simp (disch := first | exact hm | exact m2 | omega) [mvc, hck, hok, bI, bnd2_s, lI, n1n0, a1, b1, mpI]
  · have hcV := (hB.2.2.1 c (List.mem_of_getElem? hj)).1
    obtain ⟨y, c1, c2, c3, c4, c5, c6⟩ := cr_op hC hm (by rw [eT]; exact hT) (c := c) (by rw [eT]; exact hcV)
    rw [eT] at c2
    have hcl := VM_lt hT hcV
    have rq := hC.2.2.2.2.2 j c hj
    have r937 := hC.2.2.2.1
    have hjl := (List.getElem?_eq_some_iff.mp hj).1
    refine ⟨NL m τ y, ?_, c3⟩
    show f_X9_reach_L22 m (nI p) a (nI j) τ = _
    unfold f_X9_reach_L22 fRe
    simp (disch := first | exact c4 | exact c5 | omega) [mR900, mR901, mR905, mR906, mR907, mR908, mR909, mR921, mR924, mR925, mR929, mR930, mR931, mR932, mR934, mR935, mR936, mR940, mR949, mR950, mR951, ml_at, ml_names, ml_sort, ml_trayMany, ml_trays, ml_tape, ml_text, ml_opened, ml_now, ml_lies, ml_moveKind, ml_moveOne, ml_moveTwo, ml_moveThird, ml_far, ml_come, ml_good, ml_way, ml_rounds, ml_told0, ml_endAt, ms_at, ms_names, ms_sort, ms_trayMany, ms_trays, ms_tape, ms_text, ms_opened, ms_now, ms_lies, ms_moveKind, ms_moveOne, ms_moveTwo, ms_moveThird, ms_far, ms_come, ms_good, ms_way, ms_rounds, ms_told0, ms_endAt, mgI, mgL, mpI, mpL, mpZ, mvc, bnd2_s, bind_s, rz, lI, mI_eq, nI_add, pk_mul, nlt, nle, neq, nI_mI, mI_nI, nltm, mltn, nsub, zremN, zdivN, r937, hjl, rq, c1, NL_at, c2.1 p hp]
  · have c5 : MInv m τ := hC.1.inv hm
    have r937 := hC.2.2.2.1
    show f_X9_reach_L22 m (nI p) a (nI _) τ = _
    unfold f_X9_reach_L22
    simp (disch := first | exact c5 | omega) [mR900, mR901, mR905, mR906, mR907, mR908, mR909, mR921, mR924, mR925, mR929, mR930, mR931, mR932, mR934, mR935, mR936, mR940, mR949, mR950, mR951, ml_at, ml_names, ml_sort, ml_trayMany, ml_trays, ml_tape, ml_text, ml_opened, ml_now, ml_lies, ml_moveKind, ml_moveOne, ml_moveTwo, ml_moveThird, ml_far, ml_come, ml_good, ml_way, ml_rounds, ml_told0, ml_endAt, ms_at, ms_names, ms_sort, ms_trayMany, ms_trays, ms_tape, ms_text, ms_opened, ms_now, ms_lies, ms_moveKind, ms_moveOne, ms_moveTwo, ms_moveThird, ms_far, ms_come, ms_good, ms_way, ms_rounds, ms_told0, ms_endAt, mgI, mgL, mpI, mpL, mpZ, mvc, bnd2_s, bind_s, rz, lI, mI_eq, nI_add, pk_mul, nlt, nle, neq, nI_mI, mI_nI, nltm, mltn, nsub, zremN, zdivN, r937]
theorem pr_reach (h : SB x m σ t T B P O) (i : Int32) : Pr x m σ (f_X0_reach x i) (f_X9_reach m i) := by
  have hT := h.2.2.2.2.2.1
  have n4 := hT.2.2.2.1
  by_cases hok : ok i (fn T 2) = true
  · obtain ⟨p, hp, rfl⟩ := ok_of (by omega) hok
    obtain ⟨K, hK⟩ := h.K
    obtain ⟨τ1, a1, a2⟩ := p_reach h hK hp
    have q1 := (SQ.st7 (x := x) (m := m) (nI 0)).trans (SQ.ofFX a2)
    have h2 := h.sq q1
    rw [← mOt_sq q1 h] at hK a1
    obtain ⟨τ2, b1, b2⟩ := q_reach h2 hK hp
    exact Pr.of h.1 a1 a2 b1 b2
  · have hok : ok i (fn T 2) = false := by simpa using hok
    have x0 : CInv x σ := h.2.2.1.1
    have x1 : CInv x (sI σ 7 x (nI 1)) := x0
    have m1 : MInv m (sI σ 7 x (nI 1)) := h.2.2.2.1
    have eT : zAI (sI σ 7 x (nI 1)) (m + 1) = T := h.2.2.2.2.1
    have hck := q_isPerson m1 (by rw [eT]; exact hT) i
    rw [eT] at hck
    refine Pr.of h.1 (R := mI) (v := nI 1) (τ1 := sI σ 7 x (nI 1)) (τ2 := sI σ 7 x (nI 1)) ?_ (FX.refl _) ?_ (FR.refl _)
    · unfold f_X0_reach f_X0_reach_J14
      simp (disch := first | exact x0 | exact x1 | omega) [xv_0, p_isPerson h.2.2.1 hT, hok, bI, bnd2_s, lI, n1n0, xp_0, xi_0, r_II, mI_eq, nlt]
    · unfold f_X9_reach f_X9_refuse
      simp (disch := first | exact m1 | omega) [mvc, hck, hok, bI, bnd2_s, lI, mI_eq, mpI]
end
