set_option maxRecDepth 100000
theorem loop_find {α R : Type} {body : (Int32 × ZT) → Option ((Int32 × ZT) ⊕ (R ⊕ ZT))} {L : List α} {pd : α → Bool} {P : ZT → Prop} {Q : α → R → Prop} (hn : ∀ j v, L[j]? = some v → pd v = false → ∀ τ, P τ → ∃ τ', body (nI j, τ) = some (.inl (nI (j + 1), τ')) ∧ P τ') (hy : ∀ j v, L[j]? = some v → pd v = true → ∀ τ, P τ → ∃ o, body (nI j, τ) = some (.inr (.inl o)) ∧ Q v o) (he : ∀ τ, P τ → body (nI L.length, τ) = some (.inr (.inr τ))) : ∀ τ, P τ → (L.find? pd = none ∧ ∃ τ', loopC body (nI 0, τ) = some (.inr τ') ∧ P τ') ∨ ∃ v o, L.find? pd = some v ∧ loopC body (nI 0, τ) = some (.inl o) ∧ Q v o := by
  have key : ∀ (r l : List α), l ++ r = L → ∀ τ, P τ → (r.find? pd = none ∧ ∃ τ', loopC body (nI l.length, τ) = some (.inr τ') ∧ P τ') ∨ ∃ v o, r.find? pd = some v ∧ loopC body (nI l.length, τ) = some (.inl o) ∧ Q v o := by
    intro r
    induction r with
    | nil =>
      intro l hl τ hP
      rw [List.append_nil] at hl
      subst hl
      refine Or.inl ⟨rfl, τ, ?_, hP⟩
      rw [loopC_step, he τ hP]
      rfl
    | cons v r ih =>
      intro l hl τ hP
      have hlv : L[l.length]? = some v := by rw [← hl]; simp
      cases hpv : pd v with
      | false =>
        obtain ⟨τ1, h1, h2⟩ := hn l.length v hlv hpv τ hP
        have e : (v :: r).find? pd = r.find? pd := by simp [List.find?, hpv]
        have e2 : loopC body (nI l.length, τ) = loopC body (nI (l ++ [v]).length, τ1) := by
          rw [loopC_step, h1, List.length_append]
          rfl
        rw [e, e2]
        exact ih (l ++ [v]) (by rw [← hl]; simp) τ1 h2
      | true =>
        obtain ⟨o, h1, h2⟩ := hy l.length v hlv hpv τ hP
        refine Or.inr ⟨v, o, by simp [List.find?, hpv], ?_, h2⟩
        rw [loopC_step, h1]
        rfl
  exact key L [] rfl
section
variable {x m t : Nat} {σ : ZT} {T : Nat → Int32} {B P O : Nat → Nat}
theorem p_free (h : SB x m σ t T B P O) {K : Nat} (hK : BE (msM T (mOt m σ)) (enc T (nowS T)) K) : ∃ τ, f_X0_free x σ = some ((bfsK (msM T (mOt m σ)) (b0 (enc T (nowS T))) K).2.foldl (fFr T) (nI 0), τ) ∧ FX x (sI σ 7 x (nI 0)) τ := by
  have hT := h.2.2.2.2.2.1
  have n4 := hT.2.2.2.1
  have h1 := h.sq (SQ.st7 (nI 0))
  have hK1 := hK
  rw [← mOt_sq (SQ.st7 (nI 0)) h] at hK1
  obtain ⟨τ1, a1, C1, -, hB⟩ := h1.all hK1
  rw [mOt_sq (SQ.st7 (nI 0)) h] at C1 hB
  have x0 : CInv x σ := h.2.2.1.1
  have x1 : CInv x (sI σ 7 x (nI 0)) := h1.2.2.1.1
  have hBl := hB.len
  have key := loop_foldA (body := fun s : (Int32 × Int32 × ZT) => f_X0_free_L13 x s.1 s.2.1 s.2.2) (L := (bfsK (msM T (mOt m σ)) (b0 (enc T (nowS T))) K).2) (f := fFr T) (P := fun τ => CX x (sI σ 7 x (nI 0)) t T (bfsK (msM T (mOt m σ)) (b0 (enc T (nowS T))) K) τ) (fun j c hj a τ hC => ?_) (fun a τ hC => ?_) (nI 0) τ1 C1
  · obtain ⟨τ2, b1, b2⟩ := key
    refine ⟨τ2, ?_, b2.1⟩
    unfold f_X0_free
    simp (disch := first | exact x0 | exact x1 | omega) [xv_0, lI, xp_0, a1, b1]
  · have hcV := (hB.2.2.1 c (List.mem_of_getElem? hj)).1
    obtain ⟨y, c1, c2, c3, c4, c5⟩ := cx_be hC h1.2.2.1 hT hcV
    have rq := hC.2.2.2.2.2 j c hj
    have r18 := hC.2.2.2.1
    have hjl := (List.getElem?_eq_some_iff.mp hj).1
    refine ⟨CN (x + 32) (x + 33) τ y, ?_, c3⟩
    show f_X0_free_L13 x a (nI j) τ = _
    have hcn := p_fr c3 h1.2.2.1 hT (nI j) a
    rw [CN_1, c2.fr'] at hcn
    unfold f_X0_free_L13 fFr
    simp (disch := first | exact c4 | exact c5 | omega) [xr_0_0, xr_1_0, xr_5_0, xr_6_0, xr_10_0, xr_11_0, xr_13_0, xr_14_0, xr_15_0, xr_16_0, xr_17_0, xr_19_0, xr_20_0, xr_21_0, xr_23_0, xr_25_0, xr_26_0, xr_400_9, xr_501_10, xr_502_10, xr_501_25, xr_502_25, xr_700_20, xr_701_20, xr_702_20, xr_703_20, xr_700_39, xr_701_39, xr_702_39, xr_703_39, xr_800_44, xr_501_45, xr_502_45, xi_0, xp_0, xv_0, xi_9, xp_9, xv_9, xi_10, xp_10, xv_10, xi_25, xp_25, xv_25, xi_45, xp_45, xv_45, xi_20, xp_20, xv_20, xi_39, xp_39, xv_39, xi_44, xp_44, xv_44, xl_17, xs_17, xl_18, xs_18, xl_21, xs_21, xl_22, xs_22, xl_23, xs_23, xl_24, xs_24, xl_32, xs_32, xl_33, xs_33, xl_34, xs_34, xl_35, xs_35, xl_36, xs_36, xl_37, xs_37, xl_38, xs_38, xl_40, xs_40, xl_41, xs_41, xl_42, xs_42, xl_43, xs_43, xl_52, xs_52, xl_53, xs_53, xl_54, xs_54, xl_55, xs_55, lI, mI_eq, nI_add, pk_mul, nlt, nle, neq, nI_mI, mI_nI, nltm, mltn, nsub, zremN, zdivN, r18, hjl, rq, c1, hcn]
  · obtain ⟨H1, -⟩ := hC.tt h1.2.2.1
    have c5 : CInv x τ := H1.1
    have r18 := hC.2.2.2.1
    show f_X0_free_L13 x a (nI _) τ = _
    unfold f_X0_free_L13
    simp (disch := first | exact c5 | omega) [xr_0_0, xr_1_0, xr_5_0, xr_6_0, xr_10_0, xr_11_0, xr_13_0, xr_14_0, xr_15_0, xr_16_0, xr_17_0, xr_19_0, xr_20_0, xr_21_0, xr_23_0, xr_25_0, xr_26_0, xr_400_9, xr_501_10, xr_502_10, xr_501_25, xr_502_25, xr_700_20, xr_701_20, xr_702_20, xr_703_20, xr_700_39, xr_701_39, xr_702_39, xr_703_39, xr_800_44, xr_501_45, xr_502_45, xi_0, xp_0, xv_0, xi_9, xp_9, xv_9, xi_10, xp_10, xv_10, xi_25, xp_25, xv_25, xi_45, xp_45, xv_45, xi_20, xp_20, xv_20, xi_39, xp_39, xv_39, xi_44, xp_44, xv_44, xl_17, xs_17, xl_18, xs_18, xl_21, xs_21, xl_22, xs_22, xl_23, xs_23, xl_24, xs_24, xl_32, xs_32, xl_33, xs_33, xl_34, xs_34, xl_35, xs_35, xl_36, xs_36, xl_37, xs_37, xl_38, xs_38, xl_40, xs_40, xl_41, xs_41, xl_42, xs_42, xl_43, xs_43, xl_52, xs_52, xl_53, xs_53, xl_54, xs_54, xl_55, xs_55, lI, mI_eq, nI_add, pk_mul, nlt, nle, neq, nI_mI, mI_nI, nltm, mltn, nsub, zremN, zdivN, r18]
theorem q_free (h : SB x m σ t T B P O) {K : Nat} (hK : BE (msM T (mOt m σ)) (enc T (nowS T)) K) : ∃ τ, f_X9_free m σ = some ((bfsK (msM T (mOt m σ)) (b0 (enc T (nowS T))) K).2.foldl (fFr T) (nI 0), sI τ 902 m (nI 0)) ∧ FR m 933 938 9 17 σ τ := by
  have hT := h.2.2.2.2.2.1
  have n4 := hT.2.2.2.1
  have hm : MInv m σ := h.2.2.2.1
  have eT : zAI σ (m + 1) = T := h.2.2.2.2.1
  obtain ⟨τ1, a1, C1⟩ := h.mall hK
  have hB := (bfsK_inv (Cl_M hT (mOt m σ)) (VM_enc hT h.2.2.2.2.2.2.1) K).1
  have hBl := hB.len
  have key := loop_foldA (body := fun s : (Int32 × Int32 × ZT) => f_X9_free_L8 m s.1 s.2.1 s.2.2) (L := (bfsK (msM T (mOt m σ)) (b0 (enc T (nowS T))) K).2) (f := fFr T) (P := fun τ => CR m σ (enc T (nowS T)) (bfsK (msM T (mOt m σ)) (b0 (enc T (nowS T))) K) τ) (fun j c hj a τ hC => ?_) (fun a τ hC => ?_) (nI 0) τ1 C1
  · obtain ⟨τ2, b1, b2⟩ := key
    refine ⟨τ2, ?_, b2.1.mono (by omega) (by omega) (by omega) (by omega)⟩
    have m2 : MInv m τ2 := b2.1.inv hm
    unfold f_X9_free f_X9_gives
    simp (disch := first | exact hm | exact m2 | omega) [mvc, bnd2_s, lI, a1, b1, mpI]
  · have hcV := (hB.2.2.1 c (List.mem_of_getElem? hj)).1
    obtain ⟨y, c1, c2, c3, c4, c5, c6⟩ := cr_op hC hm (by rw [eT]; exact hT) (c := c) (by rw [eT]; exact hcV)
    rw [eT] at c2
    have hcl := VM_lt hT hcV
    have rq := hC.2.2.2.2.2 j c hj
    have r937 := hC.2.2.2.1
    have hjl := (List.getElem?_eq_some_iff.mp hj).1
    refine ⟨NL m τ y, ?_, c3⟩
    show f_X9_free_L8 m a (nI j) τ = _
    have hcn := q_fr c4 (by rw [c6, eT]; exact hT) (nI j) a
    rw [c6, eT, NL_at, c2.fr'] at hcn
    unfold f_X9_free_L8 fFr
    simp (disch := first | exact c4 | exact c5 | omega) [mR900, mR901, mR905, mR906, mR907, mR908, mR909, mR921, mR924, mR925, mR929, mR930, mR931, mR932, mR934, mR935, mR936, mR940, mR949, mR950, mR951, ml_at, ml_names, ml_sort, ml_trayMany, ml_trays, ml_tape, ml_text, ml_opened, ml_now, ml_lies, ml_moveKind, ml_moveOne, ml_moveTwo, ml_moveThird, ml_far, ml_come, ml_good, ml_way, ml_rounds, ml_told0, ml_endAt, ms_at, ms_names, ms_sort, ms_trayMany, ms_trays, ms_tape, ms_text, ms_opened, ms_now, ms_lies, ms_moveKind, ms_moveOne, ms_moveTwo, ms_moveThird, ms_far, ms_come, ms_good, ms_way, ms_rounds, ms_told0, ms_endAt, mgI, mgL, mpI, mpL, mpZ, mvc, bnd2_s, bind_s, rz, lI, mI_eq, nI_add, pk_mul, nlt, nle, neq, nI_mI, mI_nI, nltm, mltn, nsub, zremN, zdivN, r937, hjl, rq, c1, hcn]
  · have c5 : MInv m τ := hC.1.inv hm
    have r937 := hC.2.2.2.1
    show f_X9_free_L8 m a (nI _) τ = _
    unfold f_X9_free_L8
    simp (disch := first | exact c5 | omega) [mR900, mR901, mR905, mR906, mR907, mR908, mR909, mR921, mR924, mR925, mR929, mR930, mR931, mR932, mR934, mR935, mR936, mR940, mR949, mR950, mR951, ml_at, ml_names, ml_sort, ml_trayMany, ml_trays, ml_tape, ml_text, ml_opened, ml_now, ml_lies, ml_moveKind, ml_moveOne, ml_moveTwo, ml_moveThird, ml_far, ml_come, ml_good, ml_way, ml_rounds, ml_told0, ml_endAt, ms_at, ms_names, ms_sort, ms_trayMany, ms_trays, ms_tape, ms_text, ms_opened, ms_now, ms_lies, ms_moveKind, ms_moveOne, ms_moveTwo, ms_moveThird, ms_far, ms_come, ms_good, ms_way, ms_rounds, ms_told0, ms_endAt, mgI, mgL, mpI, mpL, mpZ, mvc, bnd2_s, bind_s, rz, lI, mI_eq, nI_add, pk_mul, nlt, nle, neq, nI_mI, mI_nI, nltm, mltn, nsub, zremN, zdivN, r937]
theorem pr_free (h : SB x m σ t T B P O) : Pr x m σ (f_X0_free x) (f_X9_free m) := by
  obtain ⟨K, hK⟩ := h.K
  obtain ⟨τ1, a1, a2⟩ := p_free h hK
  have q1 := (SQ.st7 (x := x) (m := m) (nI 0)).trans (SQ.ofFX a2)
  have h2 := h.sq q1
  rw [← mOt_sq q1 h] at hK a1
  obtain ⟨τ2, b1, b2⟩ := q_free h2 hK
  exact Pr.of h.1 a1 a2 b1 b2

def fFe (T : Nat → Int32) (p pl : Nat) (c : Nat) : Bool := (dec T c).1 p == nI pl
theorem p_fewest (h : SB x m σ t T B P O) {K p pl : Nat} (hK : BE (msM T (mOt m σ)) (enc T (nowS T)) K) (hp : p < fn T 2) (hpl : pl < fn T 0) :
    (∃ c τ, (bfsK (msM T (mOt m σ)) (b0 (enc T (nowS T))) K).2.find? (fFe T p pl) = some c ∧ f_X0_fewest x (nI p) (nI pl) σ = some (oI ((bfsK (msM T (mOt m σ)) (b0 (enc T (nowS T))) K).1 c), τ) ∧ FX x (sI σ 7 x (nI 0)) τ) ∨
    ((bfsK (msM T (mOt m σ)) (b0 (enc T (nowS T))) K).2.find? (fFe T p pl) = none ∧ ∃ τ, f_X0_fewest x (nI p) (nI pl) σ = some (mI, sI τ 7 x (nI 6)) ∧ FX x (sI σ 7 x (nI 0)) τ) := by
  have hT := h.2.2.2.2.2.1
  have n4 := hT.2.2.2.1
  have n0 := hT.2.1
  have h1 := h.sq (SQ.st7 (nI 0))
  have hK1 := hK
  rw [← mOt_sq (SQ.st7 (nI 0)) h] at hK1
  obtain ⟨τ1, a1, C1, -, hB⟩ := h1.all hK1
  rw [mOt_sq (SQ.st7 (nI 0)) h] at C1 hB
  have x0 : CInv x σ := h.2.2.1.1
  have x1 : CInv x (sI σ 7 x (nI 0)) := h1.2.2.1.1
  have hBl := hB.len
  have hok : ok (nI p) (fn T 2) = true := ok_nI (by omega) hp
  have hok2 : ok (nI pl) (fn T 0) = true := ok_nI (by omega) hpl
  have key := loop_find (body := fun s : (Int32 × ZT) => f_X0_fewest_L40 x (nI p) (nI pl) s.1 s.2) (L := (bfsK (msM T (mOt m σ)) (b0 (enc T (nowS T))) K).2) (pd := fFe T p pl) (P := fun τ => CX x (sI σ 7 x (nI 0)) t T (bfsK (msM T (mOt m σ)) (b0 (enc T (nowS T))) K) τ) (Q := fun c o => o.1 = oI ((bfsK (msM T (mOt m σ)) (b0 (enc T (nowS T))) K).1 c) ∧ FX x (sI σ 7 x (nI 0)) o.2) (fun j c hj hpd τ hC => ?_) (fun j c hj hpd τ hC => ?_) (fun τ hC => ?_) τ1 C1
  · rcases key with ⟨k1, τ2, k2, k3⟩ | ⟨c, o, k1, k2, k3, k4⟩
    · refine Or.inr ⟨k1, τ2, ?_, k3.1⟩
      have x2 : CInv x τ2 := (k3.tt h1.2.2.1).1.1
      unfold f_X0_fewest f_X0_fewest_J22 f_X0_answer f_X0_answer_J11
      simp (disch := first | exact x0 | exact x1 | exact x2 | omega) [xv_0, p_isPerson h.2.2.1 hT, p_isPlace h.2.2.1 hT, hok, hok2, bI, bnd2_s, lI, n1n0, xp_0, xi_0, r_II, a1, k2, mI_eq, mlt0]
    · refine Or.inl ⟨c, o.2, k1, ?_, k4⟩
      unfold f_X0_fewest f_X0_fewest_J22
      simp (disch := first | exact x0 | exact x1 | omega) [xv_0, p_isPerson h.2.2.1 hT, p_isPlace h.2.2.1 hT, hok, hok2, bI, bnd2_s, lI, n1n0, xp_0, xi_0, r_II, a1, k2]
      rw [← k3]
  · have hcV := (hB.2.2.1 c (List.mem_of_getElem? hj)).1
    obtain ⟨y, c1, c2, c3, c4, c5⟩ := cx_be hC h1.2.2.1 hT hcV
    have rq := hC.2.2.2.2.2 j c hj
    have r18 := hC.2.2.2.1
    have hjl := (List.getElem?_eq_some_iff.mp hj).1
    have hne : ¬ (dec T c).1 p = nI pl := by simpa [fFe] using hpd
    refine ⟨CN (x + 32) (x + 33) τ y, ?_, c3⟩
    show f_X0_fewest_L40 x (nI p) (nI pl) (nI j) τ = _
    unfold f_X0_fewest_L40
    simp (disch := first | exact c4 | exact c5 | omega) [xr_0_0, xr_1_0, xr_5_0, xr_6_0, xr_10_0, xr_11_0, xr_13_0, xr_14_0, xr_15_0, xr_16_0, xr_17_0, xr_19_0, xr_20_0, xr_21_0, xr_23_0, xr_25_0, xr_26_0, xr_400_9, xr_501_10, xr_502_10, xr_501_25, xr_502_25, xr_700_20, xr_701_20, xr_702_20, xr_703_20, xr_700_39, xr_701_39, xr_702_39, xr_703_39, xr_800_44, xr_501_45, xr_502_45, xi_0, xp_0, xv_0, xi_9, xp_9, xv_9, xi_10, xp_10, xv_10, xi_25, xp_25, xv_25, xi_45, xp_45, xv_45, xi_20, xp_20, xv_20, xi_39, xp_39, xv_39, xi_44, xp_44, xv_44, xl_17, xs_17, xl_18, xs_18, xl_21, xs_21, xl_22, xs_22, xl_23, xs_23, xl_24, xs_24, xl_32, xs_32, xl_33, xs_33, xl_34, xs_34, xl_35, xs_35, xl_36, xs_36, xl_37, xs_37, xl_38, xs_38, xl_40, xs_40, xl_41, xs_41, xl_42, xs_42, xl_43, xs_43, xl_52, xs_52, xl_53, xs_53, xl_54, xs_54, xl_55, xs_55, lI, mI_eq, nI_add, pk_mul, nlt, nle, neq, nI_mI, mI_nI, nltm, mltn, nsub, zremN, zdivN, r18, hjl, rq, c1, CN_1, c2.1 p hp, hne]
  · have hcV := (hB.2.2.1 c (List.mem_of_getElem? hj)).1
    obtain ⟨y, c1, c2, c3, c4, c5⟩ := cx_be hC h1.2.2.1 hT hcV
    have hpsl := psi_lt hT hcV
    have rq := hC.2.2.2.2.2 j c hj
    have rq2 := c3.2.2.2.2.2 j c hj
    have rf := c3.2.2.2.2.1 c hcV
    have r18 := hC.2.2.2.1
    have hjl := (List.getElem?_eq_some_iff.mp hj).1
    have heq : (dec T c).1 p = nI pl := by simpa [fFe] using hpd
    refine ⟨(oI ((bfsK (msM T (mOt m σ)) (b0 (enc T (nowS T))) K).1 c), CN (x + 32) (x + 33) τ y), ?_, rfl, c3.1⟩
    show f_X0_fewest_L40 x (nI p) (nI pl) (nI j) τ = _
    unfold f_X0_fewest_L40
    simp (disch := first | exact c4 | exact c5 | omega) [xr_0_0, xr_1_0, xr_5_0, xr_6_0, xr_10_0, xr_11_0, xr_13_0, xr_14_0, xr_15_0, xr_16_0, xr_17_0, xr_19_0, xr_20_0, xr_21_0, xr_23_0, xr_25_0, xr_26_0, xr_400_9, xr_501_10, xr_502_10, xr_501_25, xr_502_25, xr_700_20, xr_701_20, xr_702_20, xr_703_20, xr_700_39, xr_701_39, xr_702_39, xr_703_39, xr_800_44, xr_501_45, xr_502_45, xi_0, xp_0, xv_0, xi_9, xp_9, xv_9, xi_10, xp_10, xv_10, xi_25, xp_25, xv_25, xi_45, xp_45, xv_45, xi_20, xp_20, xv_20, xi_39, xp_39, xv_39, xi_44, xp_44, xv_44, xl_17, xs_17, xl_18, xs_18, xl_21, xs_21, xl_22, xs_22, xl_23, xs_23, xl_24, xs_24, xl_32, xs_32, xl_33, xs_33, xl_34, xs_34, xl_35, xs_35, xl_36, xs_36, xl_37, xs_37, xl_38, xs_38, xl_40, xs_40, xl_41, xs_41, xl_42, xs_42, xl_43, xs_43, xl_52, xs_52, xl_53, xs_53, xl_54, xs_54, xl_55, xs_55, lI, mI_eq, nI_add, pk_mul, nlt, nle, neq, nI_mI, mI_nI, nltm, mltn, nsub, zremN, zdivN, r18, hjl, rq, rq2, rf, c1, CN_1, c2.1 p hp, heq]
  · have c5 : CInv x τ := (hC.tt h1.2.2.1).1.1
    have r18 := hC.2.2.2.1
    show f_X0_fewest_L40 x (nI p) (nI pl) (nI _) τ = _
    unfold f_X0_fewest_L40
    simp (disch := first | exact c5 | omega) [xr_0_0, xr_1_0, xr_5_0, xr_6_0, xr_10_0, xr_11_0, xr_13_0, xr_14_0, xr_15_0, xr_16_0, xr_17_0, xr_19_0, xr_20_0, xr_21_0, xr_23_0, xr_25_0, xr_26_0, xr_400_9, xr_501_10, xr_502_10, xr_501_25, xr_502_25, xr_700_20, xr_701_20, xr_702_20, xr_703_20, xr_700_39, xr_701_39, xr_702_39, xr_703_39, xr_800_44, xr_501_45, xr_502_45, xi_0, xp_0, xv_0, xi_9, xp_9, xv_9, xi_10, xp_10, xv_10, xi_25, xp_25, xv_25, xi_45, xp_45, xv_45, xi_20, xp_20, xv_20, xi_39, xp_39, xv_39, xi_44, xp_44, xv_44, xl_17, xs_17, xl_18, xs_18, xl_21, xs_21, xl_22, xs_22, xl_23, xs_23, xl_24, xs_24, xl_32, xs_32, xl_33, xs_33, xl_34, xs_34, xl_35, xs_35, xl_36, xs_36, xl_37, xs_37, xl_38, xs_38, xl_40, xs_40, xl_41, xs_41, xl_42, xs_42, xl_43, xs_43, xl_52, xs_52, xl_53, xs_53, xl_54, xs_54, xl_55, xs_55, lI, mI_eq, nI_add, pk_mul, nlt, nle, neq, nI_mI, mI_nI, nltm, mltn, nsub, zremN, zdivN, r18]
theorem q_fewest (h : SB x m σ t T B P O) {K p pl : Nat} (hK : BE (msM T (mOt m σ)) (enc T (nowS T)) K) (hp : p < fn T 2) (hpl : pl < fn T 0) :
    (∃ c τ, (bfsK (msM T (mOt m σ)) (b0 (enc T (nowS T))) K).2.find? (fFe T p pl) = some c ∧ f_X9_fewest m (nI p) (nI pl) σ = some (oI ((bfsK (msM T (mOt m σ)) (b0 (enc T (nowS T))) K).1 c), sI τ 902 m (nI 0)) ∧ FR m 933 938 9 17 σ τ) ∨
    ((bfsK (msM T (mOt m σ)) (b0 (enc T (nowS T))) K).2.find? (fFe T p pl) = none ∧ ∃ τ, f_X9_fewest m (nI p) (nI pl) σ = some (mI, sI τ 902 m (nI 6)) ∧ FR m 933 938 9 17 σ τ) := by
  have hT := h.2.2.2.2.2.1
  have n4 := hT.2.2.2.1
  have n0 := hT.2.1
  have hm : MInv m σ := h.2.2.2.1
  have eT : zAI σ (m + 1) = T := h.2.2.2.2.1
  obtain ⟨τ1, a1, C1⟩ := h.mall hK
  have hB := (bfsK_inv (Cl_M hT (mOt m σ)) (VM_enc hT h.2.2.2.2.2.2.1) K).1
  have hBl := hB.len
  have hok : ok (nI p) (fn T 2) = true := ok_nI (by omega) hp
  have hok2 : ok (nI pl) (fn T 0) = true := ok_nI (by omega) hpl
  have hck := q_isPerson hm (by rw [eT]; exact hT) (nI p)
  have hck2 := q_isPlace hm (by rw [eT]; exact hT) (nI pl)
  rw [eT] at hck hck2
  have key := loop_find (body := fun s : (Int32 × ZT) => f_X9_fewest_L28 m (nI p) (nI pl) s.1 s.2) (L := (bfsK (msM T (mOt m σ)) (b0 (enc T (nowS T))) K).2) (pd := fFe T p pl) (P := fun τ => CR m σ (enc T (nowS T)) (bfsK (msM T (mOt m σ)) (b0 (enc T (nowS T))) K) τ) (Q := fun c o => o.1 = oI ((bfsK (msM T (mOt m σ)) (b0 (enc T (nowS T))) K).1 c) ∧ ∃ τ, o.2 = sI τ 902 m (nI 0) ∧ FR m 933 938 9 17 σ τ) (fun j c hj hpd τ hC => ?_) (fun j c hj hpd τ hC => ?_) (fun τ hC => ?_) τ1 C1
  · rcases key with ⟨k1, τ2, k2, k3⟩ | ⟨c, o, k1, k2, k3, τ2, k4, k5⟩
    · refine Or.inr ⟨k1, τ2, ?_, k3.1.mono (by omega) (by omega) (by omega) (by omega)⟩
      have m2 : MInv m τ2 := k3.1.inv hm
      unfold f_X9_fewest f_X9_refuse
      simp (disch := first | exact hm | exact m2 | omega) [mvc, hck, hok, hck2, hok2, bI, bnd2_s, lI, n1n0, a1, k2, mpI, mI_eq]
    · refine Or.inl ⟨c, τ2, k1, ?_, k5⟩
      unfold f_X9_fewest
      simp (disch := first | exact hm | omega) [mvc, hck, hok, hck2, hok2, bI, bnd2_s, lI, n1n0, a1, k2]
      rw [← k3, ← k4]
  · have hcV := (hB.2.2.1 c (List.mem_of_getElem? hj)).1
    obtain ⟨y, c1, c2, c3, c4, c5, c6⟩ := cr_op hC hm (by rw [eT]; exact hT) (c := c) (by rw [eT]; exact hcV)
    rw [eT] at c2
    have hcl := VM_lt hT hcV
    have rq := hC.2.2.2.2.2 j c hj
    have r937 := hC.2.2.2.1
    have hjl := (List.getElem?_eq_some_iff.mp hj).1
    have hne : ¬ (dec T c).1 p = nI pl := by simpa [fFe] using hpd
    refine ⟨NL m τ y, ?_, c3⟩
    show f_X9_fewest_L28 m (nI p) (nI pl) (nI j) τ = _
    unfold f_X9_fewest_L28
    simp (disch := first | exact c4 | exact c5 | omega) [mR900, mR901, mR905, mR906, mR907, mR908, mR909, mR921, mR924, mR925, mR929, mR930, mR931, mR932, mR934, mR935, mR936, mR940, mR949, mR950, mR951, ml_at, ml_names, ml_sort, ml_trayMany, ml_trays, ml_tape, ml_text, ml_opened, ml_now, ml_lies, ml_moveKind, ml_moveOne, ml_moveTwo, ml_moveThird, ml_far, ml_come, ml_good, ml_way, ml_rounds, ml_told0, ml_endAt, ms_at, ms_names, ms_sort, ms_trayMany, ms_trays, ms_tape, ms_text, ms_opened, ms_now, ms_lies, ms_moveKind, ms_moveOne, ms_moveTwo, ms_moveThird, ms_far, ms_come, ms_good, ms_way, ms_rounds, ms_told0, ms_endAt, mgI, mgL, mpI, mpL, mpZ, mvc, bnd2_s, bind_s, rz, lI, mI_eq, nI_add, pk_mul, nlt, nle, neq, nI_mI, mI_nI, nltm, mltn, nsub, zremN, zdivN, r937, hjl, rq, c1, NL_at, c2.1 p hp, hne]
  · have hcV := (hB.2.2.1 c (List.mem_of_getElem? hj)).1
    obtain ⟨y, c1, c2, c3, c4, c5, c6⟩ := cr_op hC hm (by rw [eT]; exact hT) (c := c) (by rw [eT]; exact hcV)
    rw [eT] at c2
    have hcl := VM_lt hT hcV
    have rq := hC.2.2.2.2.2 j c hj
    have rq2 := c3.2.2.2.2.2 j c hj
    have rf := c3.2.2.2.2.1 c hcl
    have r937 := hC.2.2.2.1
    have hjl := (List.getElem?_eq_some_iff.mp hj).1
    have heq : (dec T c).1 p = nI pl := by simpa [fFe] using hpd
    refine ⟨(oI ((bfsK (msM T (mOt m σ)) (b0 (enc T (nowS T))) K).1 c), sI (NL m τ y) 902 m (nI 0)), ?_, rfl, NL m τ y, rfl, c3.1.mono (by omega) (by omega) (by omega) (by omega)⟩
    show f_X9_fewest_L28 m (nI p) (nI pl) (nI j) τ = _
    unfold f_X9_fewest_L28 f_X9_gives
    simp (disch := first | exact c4 | exact c5 | omega) [mR900, mR901, mR905, mR906, mR907, mR908, mR909, mR921, mR924, mR925, mR929, mR930, mR931, mR932, mR934, mR935, mR936, mR940, mR949, mR950, mR951, ml_at, ml_names, ml_sort, ml_trayMany, ml_trays, ml_tape, ml_text, ml_opened, ml_now, ml_lies, ml_moveKind, ml_moveOne, ml_moveTwo, ml_moveThird, ml_far, ml_come, ml_good, ml_way, ml_rounds, ml_told0, ml_endAt, ms_at, ms_names, ms_sort, ms_trayMany, ms_trays, ms_tape, ms_text, ms_opened, ms_now, ms_lies, ms_moveKind, ms_moveOne, ms_moveTwo, ms_moveThird, ms_far, ms_come, ms_good, ms_way, ms_rounds, ms_told0, ms_endAt, mgI, mgL, mpI, mpL, mpZ, mvc, bnd2_s, bind_s, rz, lI, mI_eq, nI_add, pk_mul, nlt, nle, neq, nI_mI, mI_nI, nltm, mltn, nsub, zremN, zdivN, r937, hjl, rq, rq2, rf, c1, NL_at, c2.1 p hp, heq]
  · have c5 : MInv m τ := hC.1.inv hm
    have r937 := hC.2.2.2.1
    show f_X9_fewest_L28 m (nI p) (nI pl) (nI _) τ = _
    unfold f_X9_fewest_L28
    simp (disch := first | exact c5 | omega) [mR900, mR901, mR905, mR906, mR907, mR908, mR909, mR921, mR924, mR925, mR929, mR930, mR931, mR932, mR934, mR935, mR936, mR940, mR949, mR950, mR951, ml_at, ml_names, ml_sort, ml_trayMany, ml_trays, ml_tape, ml_text, ml_opened, ml_now, ml_lies, ml_moveKind, ml_moveOne, ml_moveTwo, ml_moveThird, ml_far, ml_come, ml_good, ml_way, ml_rounds, ml_told0, ml_endAt, ms_at, ms_names, ms_sort, ms_trayMany, ms_trays, ms_tape, ms_text, ms_opened, ms_now, ms_lies, ms_moveKind, ms_moveOne, ms_moveTwo, ms_moveThird, ms_far, ms_come, ms_good, ms_way, ms_rounds, ms_told0, ms_endAt, mgI, mgL, mpI, mpL, mpZ, mvc, bnd2_s, bind_s, rz, lI, mI_eq, nI_add, pk_mul, nlt, nle, neq, nI_mI, mI_nI, nltm, mltn, nsub, zremN, zdivN, r937]
end
