set_option maxRecDepth 100000
section
variable {x m t : Nat} {σ : ZT} {T : Nat → Int32} {B P O : Nat → Nat}
def cnt (T nw : Nat → Int32) (p : Nat) : Int32 := foldN (fun q a => a + if nw q = nI p then nI 1 else nI 0) (fn T 2) (nI 0)
theorem Agr.cnt' {s s' : St} (h : Agr T s s') (p : Nat) : cnt T s.1 p = cnt T s'.1 p := foldN_congr (fun k hk y => by rw [h.1 k hk])
def fMo (T : Nat → Int32) (p : Nat) (a : Int32) (c : Nat) : Int32 := if a < cnt T (dec T c).1 p then cnt T (dec T c).1 p else a
theorem p_cnt {s : Bf} {τ : ZT} (hC : CX x σ t T s τ) (h : HC x σ t T B P O) (hT : TW T) (p : Nat) (a b : Int32) : loopC (fun s : (Int32 × Int32 × ZT) => f_X0_most_L61 x (nI p) a b s.1 s.2.1 s.2.2) (nI 0, nI 0, τ) = some (cnt T (zAI τ (x + 32)) p, τ) := by
  obtain ⟨H1, -⟩ := hC.tt h
  have hc : CInv x τ := H1.1
  have h2 := hT.1 2 (by decide)
  have n2 := hT.2.2.2.1
  refine loop_go (fun k => (foldN (fun q a => a + if zAI τ (x + 32) q = nI p then nI 1 else nI 0) k (nI 0), nI k, τ)) (fn T 2) _ (fun k hk => ?_) ?_
  · unfold f_X0_most_L61 f_X0_most_J94_61
    simp (disch := first | exact hc | omega) [xr_0_0, xr_1_0, xr_5_0, xr_6_0, xr_10_0, xr_11_0, xr_13_0, xr_14_0, xr_15_0, xr_16_0, xr_17_0, xr_19_0, xr_20_0, xr_21_0, xr_23_0, xr_25_0, xr_26_0, xr_400_9, xr_501_10, xr_502_10, xr_501_25, xr_502_25, xr_700_20, xr_701_20, xr_702_20, xr_703_20, xr_700_39, xr_701_39, xr_702_39, xr_703_39, xr_800_44, xr_501_45, xr_502_45, xi_0, xp_0, xv_0, xi_9, xp_9, xv_9, xi_10, xp_10, xv_10, xi_25, xp_25, xv_25, xi_45, xp_45, xv_45, xi_20, xp_20, xv_20, xi_39, xp_39, xv_39, xi_44, xp_44, xv_44, xl_17, xs_17, xl_18, xs_18, xl_21, xs_21, xl_22, xs_22, xl_23, xs_23, xl_24, xs_24, xl_32, xs_32, xl_33, xs_33, xl_34, xs_34, xl_35, xs_35, xl_36, xs_36, xl_37, xs_37, xl_38, xs_38, xl_40, xs_40, xl_41, xs_41, xl_42, xs_42, xl_43, xs_43, xl_52, xs_52, xl_53, xs_53, xl_54, xs_54, xl_55, xs_55, lI, mI_eq, nI_add, pk_mul, nlt, nle, neq, nI_mI, mI_nI, nltm, mltn, nsub, zremN, zdivN, p_town H1, bnd2_s, ti2 H1.2.2.1, h2, hk, foldN]
    split <;> rfl
  · unfold f_X0_most_L61
    simp (disch := first | exact hc | omega) [xr_0_0, xr_1_0, xr_5_0, xr_6_0, xr_10_0, xr_11_0, xr_13_0, xr_14_0, xr_15_0, xr_16_0, xr_17_0, xr_19_0, xr_20_0, xr_21_0, xr_23_0, xr_25_0, xr_26_0, xr_400_9, xr_501_10, xr_502_10, xr_501_25, xr_502_25, xr_700_20, xr_701_20, xr_702_20, xr_703_20, xr_700_39, xr_701_39, xr_702_39, xr_703_39, xr_800_44, xr_501_45, xr_502_45, xi_0, xp_0, xv_0, xi_9, xp_9, xv_9, xi_10, xp_10, xv_10, xi_25, xp_25, xv_25, xi_45, xp_45, xv_45, xi_20, xp_20, xv_20, xi_39, xp_39, xv_39, xi_44, xp_44, xv_44, xl_17, xs_17, xl_18, xs_18, xl_21, xs_21, xl_22, xs_22, xl_23, xs_23, xl_24, xs_24, xl_32, xs_32, xl_33, xs_33, xl_34, xs_34, xl_35, xs_35, xl_36, xs_36, xl_37, xs_37, xl_38, xs_38, xl_40, xs_40, xl_41, xs_41, xl_42, xs_42, xl_43, xs_43, xl_52, xs_52, xl_53, xs_53, xl_54, xs_54, xl_55, xs_55, lI, mI_eq, nI_add, pk_mul, nlt, nle, neq, nI_mI, mI_nI, nltm, mltn, nsub, zremN, zdivN, p_town H1, bnd2_s, ti2 H1.2.2.1, h2]
    rfl
theorem q_cnt {τ : ZT} (h : MInv m τ) (hT : TW (zAI τ (m + 1))) (p : Nat) (a b : Int32) : loopC (fun s : (Int32 × Int32 × ZT) => f_X9_most_L46 m (nI p) a b s.1 s.2.1 s.2.2) (nI 0, nI 0, τ) = some (cnt (zAI τ (m + 1)) (zAI τ (m + 9)) p, τ) := by
  have h2 := hT.1 2 (by decide)
  have n2 := hT.2.2.2.1
  refine loop_go (fun k => (foldN (fun q a => a + if zAI τ (m + 9) q = nI p then nI 1 else nI 0) k (nI 0), nI k, τ)) (fn (zAI τ (m + 1)) 2) _ (fun k hk => ?_) ?_
  · unfold f_X9_most_L46 f_X9_most_J75_46
    simp (disch := first | exact h | omega | (simp only [Mi_sI, Mi_sL, Mi_sAI, Mi_sAL, Mi_sAIr, Mi_sALr]; exact h)) [mR900, mR901, mR905, mR906, mR907, mR908, mR909, mR921, mR924, mR925, mR929, mR930, mR931, mR932, mR934, mR935, mR936, mR940, mR949, mR950, mR951, ml_at, ml_names, ml_sort, ml_trayMany, ml_trays, ml_tape, ml_text, ml_opened, ml_now, ml_lies, ml_moveKind, ml_moveOne, ml_moveTwo, ml_moveThird, ml_far, ml_come, ml_good, ml_way, ml_rounds, ml_told0, ml_endAt, ms_at, ms_names, ms_sort, ms_trayMany, ms_trays, ms_tape, ms_text, ms_opened, ms_now, ms_lies, ms_moveKind, ms_moveOne, ms_moveTwo, ms_moveThird, ms_far, ms_come, ms_good, ms_way, ms_rounds, ms_told0, ms_endAt, mgI, mgL, mpI, mpL, mpZ, mvc, bnd2_s, bind_s, rz, lI, mI_eq, nI_add, pk_mul, nlt, nle, neq, nI_mI, mI_nI, nltm, mltn, nsub, zremN, zdivN, h2, hk, foldN]
    split <;> rfl
  · unfold f_X9_most_L46
    simp (disch := first | exact h | omega | (simp only [Mi_sI, Mi_sL, Mi_sAI, Mi_sAL, Mi_sAIr, Mi_sALr]; exact h)) [mR900, mR901, mR905, mR906, mR907, mR908, mR909, mR921, mR924, mR925, mR929, mR930, mR931, mR932, mR934, mR935, mR936, mR940, mR949, mR950, mR951, ml_at, ml_names, ml_sort, ml_trayMany, ml_trays, ml_tape, ml_text, ml_opened, ml_now, ml_lies, ml_moveKind, ml_moveOne, ml_moveTwo, ml_moveThird, ml_far, ml_come, ml_good, ml_way, ml_rounds, ml_told0, ml_endAt, ms_at, ms_names, ms_sort, ms_trayMany, ms_trays, ms_tape, ms_text, ms_opened, ms_now, ms_lies, ms_moveKind, ms_moveOne, ms_moveTwo, ms_moveThird, ms_far, ms_come, ms_good, ms_way, ms_rounds, ms_told0, ms_endAt, mgI, mgL, mpI, mpL, mpZ, mvc, bnd2_s, bind_s, rz, lI, mI_eq, nI_add, pk_mul, nlt, nle, neq, nI_mI, mI_nI, nltm, mltn, nsub, zremN, zdivN, h2]
    rfl
def fFr1 (T nw : Nat → Int32) (n : Nat) (a : Int32) : Int32 := foldN (fun q a => a ||| if T (86 + 5 * q + 2) = mI ∨ T (86 + 5 * q + 2) = nw q then nI 1 <<< (nI q &&& nI 31) else nI 0) n a
def fFr (T : Nat → Int32) (a : Int32) (c : Nat) : Int32 := fFr1 T (dec T c).1 (fn T 2) a
theorem Agr.fr' {s s' : St} (h : Agr T s s') (a : Int32) : fFr1 T s.1 (fn T 2) a = fFr1 T s'.1 (fn T 2) a := foldN_congr (fun k hk y => by rw [h.1 k hk])
theorem wn_mI (hT : TW T) {q : Nat} (hq : q < fn T 2) : T (86 + 5 * q + 2) < nI 0 ↔ T (86 + 5 * q + 2) = mI := by
  have n0 := hT.2.1
  obtain ⟨-, -, -, -, h5, -⟩ := hT.2.2.2.2.2.2.1 q hq
  rcases h5 with e | ⟨e, e2⟩
  · rw [e]; simp [mlt0]
  · rw [e]
    have c1 : ¬ nI (fn T (86 + 5 * q + 2)) < nI 0 := nI_pos (by omega)
    have c2 : ¬ nI (fn T (86 + 5 * q + 2)) = mI := fun hh => by rw [nI_mI (by omega)] at hh; exact hh
    simp [c1, c2]
theorem p_fr {s : Bf} {τ : ZT} (hC : CX x σ t T s τ) (h : HC x σ t T B P O) (hT : TW T) (b a0 : Int32) : loopC (fun s : (Int32 × Int32 × ZT) => f_X0_free_L36 x b s.1 s.2.1 s.2.2) (a0, nI 0, τ) = some (fFr1 T (zAI τ (x + 32)) (fn T 2) a0, τ) := by
  obtain ⟨H1, -⟩ := hC.tt h
  have hc : CInv x τ := H1.1
  have sp : SP τ (x + 25) (x + 32) (x + 33) t T B P O := H1.sp hC.2.1
  have h2 := hT.1 2 (by decide)
  have n2 := hT.2.2.2.1
  refine loop_go (fun k => (fFr1 T (zAI τ (x + 32)) k a0, nI k, τ)) (fn T 2) _ (fun k hk => ?_) ?_
  · unfold f_X0_free_L36 f_X0_free_J87_36 f_X0_free_J94_36 fFr1
    simp (disch := first | exact hc | exact sp | omega) [xr_0_0, xr_1_0, xr_5_0, xr_6_0, xr_10_0, xr_11_0, xr_13_0, xr_14_0, xr_15_0, xr_16_0, xr_17_0, xr_19_0, xr_20_0, xr_21_0, xr_23_0, xr_25_0, xr_26_0, xr_400_9, xr_501_10, xr_502_10, xr_501_25, xr_502_25, xr_700_20, xr_701_20, xr_702_20, xr_703_20, xr_700_39, xr_701_39, xr_702_39, xr_703_39, xr_800_44, xr_501_45, xr_502_45, xi_0, xp_0, xv_0, xi_9, xp_9, xv_9, xi_10, xp_10, xv_10, xi_25, xp_25, xv_25, xi_45, xp_45, xv_45, xi_20, xp_20, xv_20, xi_39, xp_39, xv_39, xi_44, xp_44, xv_44, xl_17, xs_17, xl_18, xs_18, xl_21, xs_21, xl_22, xs_22, xl_23, xs_23, xl_24, xs_24, xl_32, xs_32, xl_33, xs_33, xl_34, xs_34, xl_35, xs_35, xl_36, xs_36, xl_37, xs_37, xl_38, xs_38, xl_40, xs_40, xl_41, xs_41, xl_42, xs_42, xl_43, xs_43, xl_52, xs_52, xl_53, xs_53, xl_54, xs_54, xl_55, xs_55, lI, mI_eq, nI_add, pk_mul, nlt, nle, neq, nI_mI, mI_nI, nltm, mltn, nsub, zremN, zdivN, p_town H1, bnd2_s, ti2 H1.2.2.1, h2, hk, foldN, t607, tlp, tp1203, wn_mI hT hk]
    by_cases e1 : T (86 + 5 * k + 2) = mI
    · simp [e1]
    · by_cases e2 : T (86 + 5 * k + 2) = zAI τ (x + 32) k
      · simp [e1, e2]
      · simp [e1, e2]
  · unfold f_X0_free_L36
    simp (disch := first | exact hc | omega) [xr_0_0, xr_1_0, xr_5_0, xr_6_0, xr_10_0, xr_11_0, xr_13_0, xr_14_0, xr_15_0, xr_16_0, xr_17_0, xr_19_0, xr_20_0, xr_21_0, xr_23_0, xr_25_0, xr_26_0, xr_400_9, xr_501_10, xr_502_10, xr_501_25, xr_502_25, xr_700_20, xr_701_20, xr_702_20, xr_703_20, xr_700_39, xr_701_39, xr_702_39, xr_703_39, xr_800_44, xr_501_45, xr_502_45, xi_0, xp_0, xv_0, xi_9, xp_9, xv_9, xi_10, xp_10, xv_10, xi_25, xp_25, xv_25, xi_45, xp_45, xv_45, xi_20, xp_20, xv_20, xi_39, xp_39, xv_39, xi_44, xp_44, xv_44, xl_17, xs_17, xl_18, xs_18, xl_21, xs_21, xl_22, xs_22, xl_23, xs_23, xl_24, xs_24, xl_32, xs_32, xl_33, xs_33, xl_34, xs_34, xl_35, xs_35, xl_36, xs_36, xl_37, xs_37, xl_38, xs_38, xl_40, xs_40, xl_41, xs_41, xl_42, xs_42, xl_43, xs_43, xl_52, xs_52, xl_53, xs_53, xl_54, xs_54, xl_55, xs_55, lI, mI_eq, nI_add, pk_mul, nlt, nle, neq, nI_mI, mI_nI, nltm, mltn, nsub, zremN, zdivN, p_town H1, bnd2_s, ti2 H1.2.2.1, h2]
theorem q_fr {τ : ZT} (h : MInv m τ) (hT : TW (zAI τ (m + 1))) (b a0 : Int32) : loopC (fun s : (Int32 × Int32 × ZT) => f_X9_free_L28 m b s.1 s.2.1 s.2.2) (a0, nI 0, τ) = some (fFr1 (zAI τ (m + 1)) (zAI τ (m + 9)) (fn (zAI τ (m + 1)) 2) a0, τ) := by
  have h2 := hT.1 2 (by decide)
  have n2 := hT.2.2.2.1
  refine loop_go (fun k => (fFr1 (zAI τ (m + 1)) (zAI τ (m + 9)) k a0, nI k, τ)) (fn (zAI τ (m + 1)) 2) _ (fun k hk => ?_) ?_
  · unfold f_X9_free_L28 f_X9_free_J64_28 f_X9_free_J71_28 f_X9_ofPerson fFr1
    simp (disch := first | exact h | omega | (simp only [Mi_sI, Mi_sL, Mi_sAI, Mi_sAL, Mi_sAIr, Mi_sALr]; exact h)) [mR900, mR901, mR905, mR906, mR907, mR908, mR909, mR921, mR924, mR925, mR929, mR930, mR931, mR932, mR934, mR935, mR936, mR940, mR949, mR950, mR951, ml_at, ml_names, ml_sort, ml_trayMany, ml_trays, ml_tape, ml_text, ml_opened, ml_now, ml_lies, ml_moveKind, ml_moveOne, ml_moveTwo, ml_moveThird, ml_far, ml_come, ml_good, ml_way, ml_rounds, ml_told0, ml_endAt, ms_at, ms_names, ms_sort, ms_trayMany, ms_trays, ms_tape, ms_text, ms_opened, ms_now, ms_lies, ms_moveKind, ms_moveOne, ms_moveTwo, ms_moveThird, ms_far, ms_come, ms_good, ms_way, ms_rounds, ms_told0, ms_endAt, mgI, mgL, mpI, mpL, mpZ, mvc, bnd2_s, bind_s, rz, lI, mI_eq, nI_add, pk_mul, nlt, nle, neq, nI_mI, mI_nI, nltm, mltn, nsub, zremN, zdivN, h2, hk, foldN]
    by_cases e1 : zAI τ (m + 1) (86 + 5 * k + 2) = mI
    · simp [e1]
    · by_cases e2 : zAI τ (m + 1) (86 + 5 * k + 2) = zAI τ (m + 9) k
      · simp [e1, e2]
      · simp [e1, e2]
  · unfold f_X9_free_L28
    simp (disch := first | exact h | omega | (simp only [Mi_sI, Mi_sL, Mi_sAI, Mi_sAL, Mi_sAIr, Mi_sALr]; exact h)) [mR900, mR901, mR905, mR906, mR907, mR908, mR909, mR921, mR924, mR925, mR929, mR930, mR931, mR932, mR934, mR935, mR936, mR940, mR949, mR950, mR951, ml_at, ml_names, ml_sort, ml_trayMany, ml_trays, ml_tape, ml_text, ml_opened, ml_now, ml_lies, ml_moveKind, ml_moveOne, ml_moveTwo, ml_moveThird, ml_far, ml_come, ml_good, ml_way, ml_rounds, ml_told0, ml_endAt, ms_at, ms_names, ms_sort, ms_trayMany, ms_trays, ms_tape, ms_text, ms_opened, ms_now, ms_lies, ms_moveKind, ms_moveOne, ms_moveTwo, ms_moveThird, ms_far, ms_come, ms_good, ms_way, ms_rounds, ms_told0, ms_endAt, mgI, mgL, mpI, mpL, mpZ, mvc, bnd2_s, bind_s, rz, lI, mI_eq, nI_add, pk_mul, nlt, nle, neq, nI_mI, mI_nI, nltm, mltn, nsub, zremN, zdivN, h2]
theorem p_most (h : SB x m σ t T B P O) {K p : Nat} (hK : BE (msM T (mOt m σ)) (enc T (nowS T)) K) (hp : p < fn T 0) : ∃ τ, f_X0_most x (nI p) σ = some ((bfsK (msM T (mOt m σ)) (b0 (enc T (nowS T))) K).2.foldl (fMo T p) (nI 0), τ) ∧ FX x (sI σ 7 x (nI 0)) τ := by
  have hT := h.2.2.2.2.2.1
  have n4 := hT.2.1
  have h1 := h.sq (SQ.st7 (nI 0))
  have hK1 := hK
  rw [← mOt_sq (SQ.st7 (nI 0)) h] at hK1
  obtain ⟨τ1, a1, C1, -, hB⟩ := h1.all hK1
  rw [mOt_sq (SQ.st7 (nI 0)) h] at C1 hB
  have x0 : CInv x σ := h.2.2.1.1
  have x1 : CInv x (sI σ 7 x (nI 0)) := h1.2.2.1.1
  have hBl := hB.len
  have key := loop_foldA (body := fun s : (Int32 × Int32 × ZT) => f_X0_most_L34 x (nI p) s.1 s.2.1 s.2.2) (L := (bfsK (msM T (mOt m σ)) (b0 (enc T (nowS T))) K).2) (f := fMo T p) (P := fun τ => CX x (sI σ 7 x (nI 0)) t T (bfsK (msM T (mOt m σ)) (b0 (enc T (nowS T))) K) τ) (fun j c hj a τ hC => ?_) (fun a τ hC => ?_) (nI 0) τ1 C1
  · obtain ⟨τ2, b1, b2⟩ := key
    refine ⟨τ2, ?_, b2.1⟩
    unfold f_X0_most f_X0_most_J14
    have hok : ok (nI p) (fn T 0) = true := ok_nI (by omega) hp
    simp (disch := first | exact x0 | exact x1 | omega) [xv_0, p_isPlace h.2.2.1 hT, hok, bI, bnd2_s, lI, n1n0, xp_0, xi_0, r_II, a1, b1]
  · have hcV := (hB.2.2.1 c (List.mem_of_getElem? hj)).1
    obtain ⟨y, c1, c2, c3, c4, c5⟩ := cx_be hC h1.2.2.1 hT hcV
    have rq := hC.2.2.2.2.2 j c hj
    have r18 := hC.2.2.2.1
    have hjl := (List.getElem?_eq_some_iff.mp hj).1
    refine ⟨CN (x + 32) (x + 33) τ y, ?_, c3⟩
    show f_X0_most_L34 x (nI p) a (nI j) τ = _
    have hcn := p_cnt c3 h1.2.2.1 hT p a (nI j)
    rw [CN_1, c2.cnt'] at hcn
    unfold f_X0_most_L34 fMo
    simp (disch := first | exact c4 | exact c5 | omega) [xr_0_0, xr_1_0, xr_5_0, xr_6_0, xr_10_0, xr_11_0, xr_13_0, xr_14_0, xr_15_0, xr_16_0, xr_17_0, xr_19_0, xr_20_0, xr_21_0, xr_23_0, xr_25_0, xr_26_0, xr_400_9, xr_501_10, xr_502_10, xr_501_25, xr_502_25, xr_700_20, xr_701_20, xr_702_20, xr_703_20, xr_700_39, xr_701_39, xr_702_39, xr_703_39, xr_800_44, xr_501_45, xr_502_45, xi_0, xp_0, xv_0, xi_9, xp_9, xv_9, xi_10, xp_10, xv_10, xi_25, xp_25, xv_25, xi_45, xp_45, xv_45, xi_20, xp_20, xv_20, xi_39, xp_39, xv_39, xi_44, xp_44, xv_44, xl_17, xs_17, xl_18, xs_18, xl_21, xs_21, xl_22, xs_22, xl_23, xs_23, xl_24, xs_24, xl_32, xs_32, xl_33, xs_33, xl_34, xs_34, xl_35, xs_35, xl_36, xs_36, xl_37, xs_37, xl_38, xs_38, xl_40, xs_40, xl_41, xs_41, xl_42, xs_42, xl_43, xs_43, xl_52, xs_52, xl_53, xs_53, xl_54, xs_54, xl_55, xs_55, lI, mI_eq, nI_add, pk_mul, nlt, nle, neq, nI_mI, mI_nI, nltm, mltn, nsub, zremN, zdivN, r18, hjl, rq, c1, hcn]
  · obtain ⟨H1, -⟩ := hC.tt h1.2.2.1
    have c5 : CInv x τ := H1.1
    have r18 := hC.2.2.2.1
    show f_X0_most_L34 x (nI p) a (nI _) τ = _
    unfold f_X0_most_L34
    simp (disch := first | exact c5 | omega) [xr_0_0, xr_1_0, xr_5_0, xr_6_0, xr_10_0, xr_11_0, xr_13_0, xr_14_0, xr_15_0, xr_16_0, xr_17_0, xr_19_0, xr_20_0, xr_21_0, xr_23_0, xr_25_0, xr_26_0, xr_400_9, xr_501_10, xr_502_10, xr_501_25, xr_502_25, xr_700_20, xr_701_20, xr_702_20, xr_703_20, xr_700_39, xr_701_39, xr_702_39, xr_703_39, xr_800_44, xr_501_45, xr_502_45, xi_0, xp_0, xv_0, xi_9, xp_9, xv_9, xi_10, xp_10, xv_10, xi_25, xp_25, xv_25, xi_45, xp_45, xv_45, xi_20, xp_20, xv_20, xi_39, xp_39, xv_39, xi_44, xp_44, xv_44, xl_17, xs_17, xl_18, xs_18, xl_21, xs_21, xl_22, xs_22, xl_23, xs_23, xl_24, xs_24, xl_32, xs_32, xl_33, xs_33, xl_34, xs_34, xl_35, xs_35, xl_36, xs_36, xl_37, xs_37, xl_38, xs_38, xl_40, xs_40, xl_41, xs_41, xl_42, xs_42, xl_43, xs_43, xl_52, xs_52, xl_53, xs_53, xl_54, xs_54, xl_55, xs_55, lI, mI_eq, nI_add, pk_mul, nlt, nle, neq, nI_mI, mI_nI, nltm, mltn, nsub, zremN, zdivN, r18]
theorem q_most (h : SB x m σ t T B P O) {K p : Nat} (hK : BE (msM T (mOt m σ)) (enc T (nowS T)) K) (hp : p < fn T 0) : ∃ τ, f_X9_most m (nI p) σ = some ((bfsK (msM T (mOt m σ)) (b0 (enc T (nowS T))) K).2.foldl (fMo T p) (nI 0), sI τ 902 m (nI 0)) ∧ FR m 933 938 9 17 σ τ := by
  have hT := h.2.2.2.2.2.1
  have n4 := hT.2.1
  have hm : MInv m σ := h.2.2.2.1
  have eT : zAI σ (m + 1) = T := h.2.2.2.2.1
  obtain ⟨τ1, a1, C1⟩ := h.mall hK
  have hB := (bfsK_inv (Cl_M hT (mOt m σ)) (VM_enc hT h.2.2.2.2.2.2.1) K).1
  have hBl := hB.len
  have key := loop_foldA (body := fun s : (Int32 × Int32 × ZT) => f_X9_most_L22 m (nI p) s.1 s.2.1 s.2.2) (L := (bfsK (msM T (mOt m σ)) (b0 (enc T (nowS T))) K).2) (f := fMo T p) (P := fun τ => CR m σ (enc T (nowS T)) (bfsK (msM T (mOt m σ)) (b0 (enc T (nowS T))) K) τ) (fun j c hj a τ hC => ?_) (fun a τ hC => ?_) (nI 0) τ1 C1
  · obtain ⟨τ2, b1, b2⟩ := key
    refine ⟨τ2, ?_, b2.1.mono (by omega) (by omega) (by omega) (by omega)⟩
    have m2 : MInv m τ2 := b2.1.inv hm
    have hok : ok (nI p) (fn T 0) = true := ok_nI (by omega) hp
    have hck := q_isPlace hm (by rw [eT]; exact hT) (nI p)
    rw [eT] at hck
    unfold f_X9_most f_X9_gives
    simp (disch := first | exact hm | exact m2 | omega) [mvc, hck, hok, bI, bnd2_s, lI, n1n0, a1, b1, mpI]
  · have hcV := (hB.2.2.1 c (List.mem_of_getElem? hj)).1
    obtain ⟨y, c1, c2, c3, c4, c5, c6⟩ := cr_op hC hm (by rw [eT]; exact hT) (c := c) (by rw [eT]; exact hcV)
    rw [eT] at c2
    have hcl := VM_lt hT hcV
    have rq := hC.2.2.2.2.2 j c hj
    have r937 := hC.2.2.2.1
    have hjl := (List.getElem?_eq_some_iff.mp hj).1
    refine ⟨NL m τ y, ?_, c3⟩
    show f_X9_most_L22 m (nI p) a (nI j) τ = _
    have hcn := q_cnt c4 (by rw [c6, eT]; exact hT) p a (nI j)
    rw [c6, eT, NL_at, c2.cnt'] at hcn
    unfold f_X9_most_L22 f_X9_most_J96_22 fMo
    simp (disch := first | exact c4 | exact c5 | omega) [mR900, mR901, mR905, mR906, mR907, mR908, mR909, mR921, mR924, mR925, mR929, mR930, mR931, mR932, mR934, mR935, mR936, mR940, mR949, mR950, mR951, ml_at, ml_names, ml_sort, ml_trayMany, ml_trays, ml_tape, ml_text, ml_opened, ml_now, ml_lies, ml_moveKind, ml_moveOne, ml_moveTwo, ml_moveThird, ml_far, ml_come, ml_good, ml_way, ml_rounds, ml_told0, ml_endAt, ms_at, ms_names, ms_sort, ms_trayMany, ms_trays, ms_tape, ms_text, ms_opened, ms_now, ms_lies, ms_moveKind, ms_moveOne, ms_moveTwo, ms_moveThird, ms_far, ms_come, ms_good, ms_way, ms_rounds, ms_told0, ms_endAt, mgI, mgL, mpI, mpL, mpZ, mvc, bnd2_s, bind_s, rz, lI, mI_eq, nI_add, pk_mul, nlt, nle, neq, nI_mI, mI_nI, nltm, mltn, nsub, zremN, zdivN, r937, hjl, rq, c1, hcn]
    split <;> rfl
  · have c5 : MInv m τ := hC.1.inv hm
    have r937 := hC.2.2.2.1
    show f_X9_most_L22 m (nI p) a (nI _) τ = _
    unfold f_X9_most_L22
    simp (disch := first | exact c5 | omega) [mR900, mR901, mR905, mR906, mR907, mR908, mR909, mR921, mR924, mR925, mR929, mR930, mR931, mR932, mR934, mR935, mR936, mR940, mR949, mR950, mR951, ml_at, ml_names, ml_sort, ml_trayMany, ml_trays, ml_tape, ml_text, ml_opened, ml_now, ml_lies, ml_moveKind, ml_moveOne, ml_moveTwo, ml_moveThird, ml_far, ml_come, ml_good, ml_way, ml_rounds, ml_told0, ml_endAt, ms_at, ms_names, ms_sort, ms_trayMany, ms_trays, ms_tape, ms_text, ms_opened, ms_now, ms_lies, ms_moveKind, ms_moveOne, ms_moveTwo, ms_moveThird, ms_far, ms_come, ms_good, ms_way, ms_rounds, ms_told0, ms_endAt, mgI, mgL, mpI, mpL, mpZ, mvc, bnd2_s, bind_s, rz, lI, mI_eq, nI_add, pk_mul, nlt, nle, neq, nI_mI, mI_nI, nltm, mltn, nsub, zremN, zdivN, r937]
theorem pr_most (h : SB x m σ t T B P O) (i : Int32) : Pr x m σ (f_X0_most x i) (f_X9_most m i) := by
  have hT := h.2.2.2.2.2.1
  have n4 := hT.2.1
  by_cases hok : ok i (fn T 0) = true
  · obtain ⟨p, hp, rfl⟩ := ok_of (by omega) hok
    obtain ⟨K, hK⟩ := h.K
    obtain ⟨τ1, a1, a2⟩ := p_most h hK hp
    have q1 := (SQ.st7 (x := x) (m := m) (nI 0)).trans (SQ.ofFX a2)
    have h2 := h.sq q1
    rw [← mOt_sq q1 h] at hK a1
    obtain ⟨τ2, b1, b2⟩ := q_most h2 hK hp
    exact Pr.of h.1 a1 a2 b1 b2
  · have hok : ok i (fn T 0) = false := by simpa using hok
    have x0 : CInv x σ := h.2.2.1.1
    have x1 : CInv x (sI σ 7 x (nI 1)) := x0
    have m1 : MInv m (sI σ 7 x (nI 1)) := h.2.2.2.1
    have eT : zAI (sI σ 7 x (nI 1)) (m + 1) = T := h.2.2.2.2.1
    have hck := q_isPlace m1 (by rw [eT]; exact hT) i
    rw [eT] at hck
    refine Pr.of h.1 (R := mI) (v := nI 1) (τ1 := sI σ 7 x (nI 1)) (τ2 := sI σ 7 x (nI 1)) ?_ (FX.refl _) ?_ (FR.refl _)
    · unfold f_X0_most f_X0_most_J14
      simp (disch := first | exact x0 | exact x1 | omega) [xv_0, p_isPlace h.2.2.1 hT, hok, bI, bnd2_s, lI, n1n0, xp_0, xi_0, r_II, mI_eq, nlt]
    · unfold f_X9_most f_X9_refuse
      simp (disch := first | exact m1 | omega) [mvc, hck, hok, bI, bnd2_s, lI, mI_eq, mpI]
end
