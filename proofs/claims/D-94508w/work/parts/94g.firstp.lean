set_option maxRecDepth 100000
/-- the first way that was told last, on both sides -/
def FWR (x m : Nat) (τ : ZT) : Prop := ∃ ws : List Mv, zI τ 22 x = nI ws.length ∧ ws.length < 129600 ∧ (zI τ 939 m = nI ws.length ∨ (zI τ 939 m = mI ∧ ws = [])) ∧ ∀ n v, ws[n]? = some v → (∃ k, k < 92 ∧ zAI τ (x + 38) n = nI k ∧ zAI τ (x + 40) k = nI v.1 ∧ zAI τ (x + 41) k = nI v.2.1 ∧ zAI τ (x + 42) k = oI v.2.2.1 ∧ zAI τ (x + 43) k = oI v.2.2.2) ∧ zAI τ (m + 18) n = nI (wenc v) ∧ v.1 < 4 ∧ v.2.1 < 4 ∧ o1 v.2.2.1 ≤ 4 ∧ o1 v.2.2.2 ≤ 8
theorem mvs_small {T : Nat → Int32} (hT : TW T) {v : Mv} (hmem : v ∈ mvs T) : v.1 < 4 ∧ v.2.1 < 4 ∧ o1 v.2.2.1 ≤ 4 ∧ o1 v.2.2.2 ≤ 8 := by
  have hW := mvs_W hmem
  have n4 := hT.2.2.2.1
  have n8 := hT.2.2.1
  have n2 := hT.2.2.2.2.1
  have h1 := hW.1.1
  refine ⟨hW.2, by omega, ?_⟩
  unfold mvs at hmem
  simp only [List.mem_append, List.mem_flatMap, List.mem_range'] at hmem
  rcases hmem with ((⟨p, -, h3⟩ | ⟨p, -, h3⟩) | ⟨p, -, h3⟩) | ⟨p, -, h3⟩
  · obtain ⟨b, hb, rfl⟩ := mem_go h3
    exact ⟨Nat.zero_le _, by show b + 1 ≤ 8; omega⟩
  · obtain ⟨q, b, -, h4, h5, rfl⟩ := mem_bo h3
    exact ⟨by show q + 1 ≤ 4; omega, by show b + 1 ≤ 8; omega⟩
  · obtain ⟨b, hb, rfl⟩ := mem_li h3
    exact ⟨Nat.zero_le _, by show b + 1 ≤ 8; omega⟩
  · simp [gDr] at h3
    subst h3
    exact ⟨Nat.zero_le _, Nat.zero_le _⟩
section
variable {x m t : Nat} {σ σ' τ : ZT} {T : Nat → Int32} {B P O : Nat → Nat}
theorem FWR.sq (h : FWR x m σ) (hm : x + 56 ≤ m) (g : SQ x m σ σ') : FWR x m σ' := by
  obtain ⟨g1, g2, g3, g4, g5, g6, g7, g8, g9⟩ := g
  obtain ⟨ws, h1, h2, h3, h4⟩ := h
  refine ⟨ws, ?_, h2, ?_, fun n v hv => ?_⟩
  · rw [g8 _ _ (by omega) (by omega) (by omega) (by omega)]; exact h1
  · rw [g8 _ _ (by omega) (by omega) (by omega) (by omega)]; exact h3
  · rw [g9 (x + 38) (by omega) (by omega) (by omega), g9 (x + 40) (by omega) (by omega) (by omega), g9 (x + 41) (by omega) (by omega) (by omega), g9 (x + 42) (by omega) (by omega) (by omega), g9 (x + 43) (by omega) (by omega) (by omega), g9 (m + 18) (by omega) (by omega) (by omega)]
    exact h4 n v hv
theorem pr_first (h : SB x m σ t T B P O) (hw : FWR x m σ) : ∃ r τ1 τ2, f_X0_first x σ = some (r, τ1) ∧ f_X9_first m τ1 = some (r, τ2) ∧ SQ2 x m σ τ2 ∧ zI τ2 7 x = zI τ2 902 m ∧ FWR x m τ2 := by
  have hT := h.2.2.2.2.2.1
  have hxm := h.1
  have hne : x ≠ m := by omega
  rcases p_first h with ⟨τ, a1, a2, a3⟩ | ⟨D, ks, τ, hD, a1, a2, a3, a4, a5, a6, a7, a8, a9⟩
  · have q1 : SQ x m σ (sI τ 7 x (nI 6)) := (SQ.ofFX a2).trans (SQ.st7 _)
    have h1 := h.sq q1
    have eo : msM T (mOt m (sI τ 7 x (nI 6))) = msM T (cOt x σ) := (mOt_sq q1 h).trans h.ot.symm
    rcases q_first h1 with ⟨τ2, b1, b2, b3⟩ | ⟨D', ks', τ2, b1, b2, b3, b4⟩
    · have q2 : SQ x m σ (sI τ2 902 m (nI 6)) := (q1.trans (SQ.ofFR b2)).trans (SQ.st902 _)
      refine ⟨mI, _, _, a1, b1, q2.two, ?_, hw.sq hxm q2⟩
      rw [r_II, if_neg (by omega), r_II, if_pos ⟨rfl, rfl⟩, b2.i (by omega), r_II, if_pos ⟨rfl, rfl⟩]
    · rw [eo] at b3
      exact absurd b3 (a3 D')
  · have h1 := h.sq2 a2
    have eo : msM T (mOt m τ) = msM T (cOt x σ) := by
      rw [h.ot]
      refine OtE.ms ⟨?_, fun p hp => ?_⟩ hT
      · show zI τ 926 m = zI σ 926 m
        rw [h1.2.2.2.2.2.2.2.2.2.2.1, h.2.2.2.2.2.2.2.2.2.2.1]
      · show (if nI p = zI τ 928 m then zI τ 927 m else nI 0) = (if nI p = zI σ 928 m then zI σ 927 m else nI 0)
        rw [h1.2.2.2.2.2.2.2.2.2.2.2, h.2.2.2.2.2.2.2.2.2.2.2]
        split <;> split <;> rfl
    rcases q_first h1 with ⟨τ2, b1, b2, b3⟩ | ⟨D', ks', τ2, b1, b2, b3, b4, b5, b6, b7⟩
    · rw [eo] at b3
      exact absurd a5 (b3 D)
    · rw [eo] at b3 b4
      have eD : D = D' := by
        by_cases e : D < D'
        · exact absurd a5 (b4 D e)
        · by_cases e2 : D' < D
          · exact absurd b3 (a6 D' e2)
          · omega
      subst eD
      have ek := a4.uniq (WK.congr eo b5)
      subst ek
      have hlen := a4.len
      refine ⟨nI D, τ, sI τ2 902 m (nI 0), a1, b1, (a2.trans (SQ2.ofFR b2)).trans (SQ.st902 _).two, ?_, ?_⟩
      · rw [r_II, if_neg (by omega), r_II, if_pos ⟨rfl, rfl⟩, b2.i (by omega)]
        exact a3
      · refine ⟨ks.map (fun k => ((mvs T)[k]?).getD (0, 0, none, none)), ?_, by rw [List.length_map, hlen]; exact hD, Or.inl ?_, fun n v hv => ?_⟩
        · rw [List.length_map, hlen, r_II, if_neg (by omega), b2.i (by omega)]
          exact a9
        · rw [List.length_map, hlen, r_II, if_neg (by omega)]
          exact b7
        · rw [List.getElem?_map] at hv
          cases hk : ks[n]? with
          | none => rw [hk] at hv; cases hv
          | some k =>
            rw [hk] at hv
            have hkl := a4.mem k (List.mem_of_getElem? hk)
            have hkv : (mvs T)[k]? = some v := by
              have e : (mvs T)[k]? = some (mvs T)[k] := List.getElem?_eq_getElem hkl
              have hv : some (((mvs T)[k]?).getD (0, 0, none, none)) = some v := hv
              rw [e] at hv ⊢
              exact hv
            have hl := h.mlen
            obtain ⟨s1, s2, s3, s4⟩ := mvs_small hT (List.mem_of_getElem? hkv)
            obtain ⟨m1, m2, m3, m4⟩ := a8.2 k v hkv
            have hz : ∀ a, a < m → zAI (sI τ2 902 m (nI 0)) a = zAI τ a := fun a ha => b2.ai (by omega)
            refine ⟨⟨k, by omega, ?_, ?_, ?_, ?_, ?_⟩, b6 n k v hk hkv, s1, s2, s3, s4⟩
            · rw [hz _ (by omega)]; exact a7 n k hk
            · rw [hz _ (by omega)]; exact m1
            · rw [hz _ (by omega)]; exact m2
            · rw [hz _ (by omega)]; exact m3
            · rw [hz _ (by omega)]; exact m4
theorem o1_sub (o : Option Nat) : nI (o1 o) - nI 1 = oI o := by
  cases o with
  | none => decide
  | some k =>
    show nI (k + 1) - nI 1 = nI k
    rw [nsub (by omega)]
    rfl
theorem oI_st {o : Option Nat} (h : o1 o ≤ 8) : (if oI o = mI then nI 6 else nI 0) = (if oI o < nI 0 then nI 6 else nI 0) := by
  cases o with
  | none => rw [if_pos (show oI none = mI from rfl), if_pos (show oI none < nI 0 from mlt0)]
  | some d =>
    have h : d + 1 ≤ 8 := h
    have w1 : ¬ nI d < nI 0 := nI_pos (by omega)
    have w2 : ¬ nI d = mI := fun hh => by rw [nI_mI (by omega)] at hh; exact hh
    show (if nI d = mI then nI 6 else nI 0) = (if nI d < nI 0 then nI 6 else nI 0)
    rw [if_neg w1, if_neg w2]
theorem pr_firstAt (h : SB x m σ t T B P O) (hw : FWR x m σ) (i j : Int32) : Pr x m σ (f_X0_firstAt x i j) (f_X9_firstAt m i j) := by
  have x0 : CInv x σ := h.2.2.1.1
  have hin := p_in03 j σ
  obtain ⟨ws, w1, w2, w3, w4⟩ := hw
  have hin2 : f_X0_isIn (i.toInt64) (0 : Int64) ((nI ws.length - nI 1).toInt64) σ = some (bI (ok i ws.length), σ) := by
    rw [p_isIn, isIn_ok i (by omega)]
  by_cases hok : j < nI 0 ∨ nI 3 < j
  · have hf : (!decide (j < nI 0) && !decide (nI 3 < j)) = false := by
      rcases hok with e | e <;> simp [e]
    rw [hf] at hin
    have x1 : CInv x (sI σ 7 x (nI 1)) := x0
    have m1 : MInv m (sI σ 7 x (nI 1)) := h.2.2.2.1
    refine Pr.of h.1 (R := mI) (v := nI 1) (τ1 := sI σ 7 x (nI 1)) (τ2 := sI σ 7 x (nI 1)) ?_ (FX.refl _) ?_ (FR.refl _)
    · unfold f_X0_firstAt f_X0_firstAt_J39
      simp (disch := first | exact x0 | exact x1 | omega) [hin, bI, bnd2_s, lI, xp_0, xi_0, r_II, mI_eq, nlt]
    · unfold f_X9_firstAt f_X9_firstAt_J9 f_X9_refuse
      by_cases e : j < nI 0
      · simp (disch := first | exact m1 | omega) [mvc, bnd2_s, lI, mI_eq, mpI, e]
      · have e2 : nI 3 < j := hok.resolve_left e
        simp (disch := first | exact m1 | omega) [mvc, bnd2_s, lI, mI_eq, mpI, e, e2]
  · have e1 : ¬ j < nI 0 := fun e => hok (Or.inl e)
    have e2 : ¬ nI 3 < j := fun e => hok (Or.inr e)
    have hf : (!decide (j < nI 0) && !decide (nI 3 < j)) = true := by simp [e1, e2]
    rw [hf] at hin
    have hin : f_X0_isIn (j.toInt64) (0 : Int64) (3 : Int64) σ = some (nI 1, σ) := hin
    by_cases hok2 : ok i ws.length = true
    · obtain ⟨n, hn, rfl⟩ := ok_of (by omega) hok2
      rw [hok2] at hin2
      have hin2 : f_X0_isIn ((nI n).toInt64) (0 : Int64) ((nI ws.length - nI 1).toInt64) σ = some (nI 1, σ) := hin2
      obtain ⟨k, hk, rfl⟩ := nI_of2 (M := nI 3) (n := 3) (by decide) e1 (Int32.not_lt.mp e2)
      obtain ⟨v, hv⟩ : ∃ v, ws[n]? = some v := ⟨_, List.getElem?_eq_getElem hn⟩
      obtain ⟨⟨kk, k1, k2, k3, k4, k5, k6⟩, k7, k8, k9, k10, k11⟩ := w4 n v hv
      have r939 : zI σ 939 m = nI ws.length := by
        rcases w3 with w3 | ⟨-, w3⟩
        · exact w3
        · rw [w3] at hn; exact absurd hn (Nat.not_lt_zero _)
      have x1 : CInv x (sI σ 7 x (nI 0)) := x0
      have hwb : wenc v < 4000 := by unfold wenc; omega
      -- what each of the four is
      have both : ∀ val : Option Nat, (o1 val ≤ 8) → f_X0_firstAt x (nI n) (nI k) σ = some (oI val, sI (sI σ 7 x (nI 0)) 7 x (if oI val < nI 0 then nI 6 else nI 0)) → f_X9_firstAt m (nI n) (nI k) (sI (sI σ 7 x (nI 0)) 7 x (if oI val < nI 0 then nI 6 else nI 0)) = some (oI val, sI (sI (sI σ 7 x (nI 0)) 7 x (if oI val < nI 0 then nI 6 else nI 0)) 902 m (if oI val < nI 0 then nI 6 else nI 0)) → Pr x m σ (f_X0_firstAt x (nI n) (nI k)) (f_X9_firstAt m (nI n) (nI k)) := by
        intro val _ hc hd
        exact Pr.of2 h.1 (v := nI 0) (τ1 := sI σ 7 x (nI 0)) hc (SQ.refl _) hd (FR.refl _)
      have hpa := fun val => p_answer x1 (oI val)
      have hlt : ¬ n < 0 := by omega
      have hnn : ¬ nI n < nI 0 := nI_pos (by omega)
      have hmm : ∀ val, MInv m (sI (sI σ 7 x (nI 0)) 7 x (if oI val < nI 0 then nI 6 else nI 0)) := fun val => h.2.2.2.1
      have hk3 : k = 0 ∨ k = 1 ∨ k = 2 ∨ k = 3 := by omega
      have k7' : ∀ val, zAI (sI (sI σ 7 x (nI 0)) 7 x (if oI val < nI 0 then nI 6 else nI 0)) (m + 18) n = nI (wenc v) := fun val => k7
      have r939' : ∀ val, zI (sI (sI σ 7 x (nI 0)) 7 x (if oI val < nI 0 then nI 6 else nI 0)) 939 m = nI ws.length := fun val => by
        rw [r_II, if_neg (by omega), r_II, if_neg (by omega)]; exact r939
      rcases hk3 with rfl | rfl | rfl | rfl
      · refine both (some v.1) (by show v.1 + 1 ≤ 8; omega) ?_ ?_
        · have hp := hpa (some v.1)
          have hp : f_X0_answer x (nI v.1) (sI σ 7 x (nI 0)) = _ := hp
          unfold f_X0_firstAt f_X0_firstAt_J39 f_X0_firstAt_J118
          simp (disch := first | exact x0 | exact x1 | omega) [hin, hin2, n1n0, bnd2_s, lI, xr_0_0, xr_1_0, xr_5_0, xr_6_0, xr_10_0, xr_11_0, xr_13_0, xr_14_0, xr_15_0, xr_16_0, xr_17_0, xr_19_0, xr_20_0, xr_21_0, xr_23_0, xr_25_0, xr_26_0, xr_400_9, xr_501_10, xr_502_10, xr_501_25, xr_502_25, xr_700_20, xr_701_20, xr_702_20, xr_703_20, xr_700_39, xr_701_39, xr_702_39, xr_703_39, xr_800_44, xr_501_45, xr_502_45, xi_0, xp_0, xv_0, xi_9, xp_9, xv_9, xi_10, xp_10, xv_10, xi_25, xp_25, xv_25, xi_45, xp_45, xv_45, xi_20, xp_20, xv_20, xi_39, xp_39, xv_39, xi_44, xp_44, xv_44, xl_17, xs_17, xl_18, xs_18, xl_21, xs_21, xl_22, xs_22, xl_23, xs_23, xl_24, xs_24, xl_32, xs_32, xl_33, xs_33, xl_34, xs_34, xl_35, xs_35, xl_36, xs_36, xl_37, xs_37, xl_38, xs_38, xl_40, xs_40, xl_41, xs_41, xl_42, xs_42, xl_43, xs_43, xl_52, xs_52, xl_53, xs_53, xl_54, xs_54, xl_55, xs_55, r_II, w1, zAI_sI, k2, k3, hp]
        · have hmv := hmm (some v.1)
          have hst : (if oI (some v.1) < nI 0 then nI 6 else nI 0) = nI 0 := if_neg (show ¬ nI v.1 < nI 0 from nI_pos (by omega))
          have hd1 : wenc v / 1000 = v.1 := by unfold wenc; omega
          have k77 := k7' (some v.1)
          have r9 := r939' (some v.1)
          rw [hst] at hmv k77 r9 ⊢
          unfold f_X9_firstAt f_X9_firstAt_J101 f_X9_gives
          simp (disch := first | exact hmv | omega) [mR900, mR901, mR905, mR906, mR907, mR908, mR909, mR921, mR924, mR925, mR929, mR930, mR931, mR932, mR934, mR935, mR936, mR940, mR949, mR950, mR951, ml_at, ml_names, ml_sort, ml_trayMany, ml_trays, ml_tape, ml_text, ml_opened, ml_now, ml_lies, ml_moveKind, ml_moveOne, ml_moveTwo, ml_moveThird, ml_far, ml_come, ml_good, ml_way, ml_rounds, ml_told0, ml_endAt, ms_at, ms_names, ms_sort, ms_trayMany, ms_trays, ms_tape, ms_text, ms_opened, ms_now, ms_lies, ms_moveKind, ms_moveOne, ms_moveTwo, ms_moveThird, ms_far, ms_come, ms_good, ms_way, ms_rounds, ms_told0, ms_endAt, mgI, mgL, mpI, mpL, mpZ, mvc, bnd2_s, bind_s, rz, lI, mI_eq, nI_add, pk_mul, nlt, nle, neq, nI_mI, mI_nI, nltm, mltn, nsub, zremN, zdivN, hnn, hn, r9, k77, hd1, oI]
      · refine both (some v.2.1) (by show v.2.1 + 1 ≤ 8; omega) ?_ ?_
        · have hp := hpa (some v.2.1)
          have hp : f_X0_answer x (nI v.2.1) (sI σ 7 x (nI 0)) = _ := hp
          unfold f_X0_firstAt f_X0_firstAt_J39 f_X0_firstAt_J118
          simp (disch := first | exact x0 | exact x1 | omega) [hin, hin2, n1n0, bnd2_s, lI, xr_0_0, xr_1_0, xr_5_0, xr_6_0, xr_10_0, xr_11_0, xr_13_0, xr_14_0, xr_15_0, xr_16_0, xr_17_0, xr_19_0, xr_20_0, xr_21_0, xr_23_0, xr_25_0, xr_26_0, xr_400_9, xr_501_10, xr_502_10, xr_501_25, xr_502_25, xr_700_20, xr_701_20, xr_702_20, xr_703_20, xr_700_39, xr_701_39, xr_702_39, xr_703_39, xr_800_44, xr_501_45, xr_502_45, xi_0, xp_0, xv_0, xi_9, xp_9, xv_9, xi_10, xp_10, xv_10, xi_25, xp_25, xv_25, xi_45, xp_45, xv_45, xi_20, xp_20, xv_20, xi_39, xp_39, xv_39, xi_44, xp_44, xv_44, xl_17, xs_17, xl_18, xs_18, xl_21, xs_21, xl_22, xs_22, xl_23, xs_23, xl_24, xs_24, xl_32, xs_32, xl_33, xs_33, xl_34, xs_34, xl_35, xs_35, xl_36, xs_36, xl_37, xs_37, xl_38, xs_38, xl_40, xs_40, xl_41, xs_41, xl_42, xs_42, xl_43, xs_43, xl_52, xs_52, xl_53, xs_53, xl_54, xs_54, xl_55, xs_55, neq, nlt, r_II, w1, zAI_sI, k2, k4, hp]
        · have hmv := hmm (some v.2.1)
          have hst : (if oI (some v.2.1) < nI 0 then nI 6 else nI 0) = nI 0 := if_neg (show ¬ nI v.2.1 < nI 0 from nI_pos (by omega))
          have hd1 : wenc v / 100 % 10 = v.2.1 := by unfold wenc; omega
          have k77 := k7' (some v.2.1)
          have r9 := r939' (some v.2.1)
          rw [hst] at hmv k77 r9 ⊢
          unfold f_X9_firstAt f_X9_firstAt_J101 f_X9_gives
          simp (disch := first | exact hmv | omega) [mR900, mR901, mR905, mR906, mR907, mR908, mR909, mR921, mR924, mR925, mR929, mR930, mR931, mR932, mR934, mR935, mR936, mR940, mR949, mR950, mR951, ml_at, ml_names, ml_sort, ml_trayMany, ml_trays, ml_tape, ml_text, ml_opened, ml_now, ml_lies, ml_moveKind, ml_moveOne, ml_moveTwo, ml_moveThird, ml_far, ml_come, ml_good, ml_way, ml_rounds, ml_told0, ml_endAt, ms_at, ms_names, ms_sort, ms_trayMany, ms_trays, ms_tape, ms_text, ms_opened, ms_now, ms_lies, ms_moveKind, ms_moveOne, ms_moveTwo, ms_moveThird, ms_far, ms_come, ms_good, ms_way, ms_rounds, ms_told0, ms_endAt, mgI, mgL, mpI, mpL, mpZ, mvc, bnd2_s, bind_s, rz, lI, mI_eq, nI_add, pk_mul, nlt, nle, neq, nI_mI, mI_nI, nltm, mltn, nsub, zremN, zdivN, hnn, hn, r9, k77, hd1, oI]
      · refine both v.2.2.1 (by omega) ?_ ?_
        · have hp := hpa v.2.2.1
          unfold f_X0_firstAt f_X0_firstAt_J39 f_X0_firstAt_J118
          simp (disch := first | exact x0 | exact x1 | omega) [hin, hin2, n1n0, bnd2_s, lI, xr_0_0, xr_1_0, xr_5_0, xr_6_0, xr_10_0, xr_11_0, xr_13_0, xr_14_0, xr_15_0, xr_16_0, xr_17_0, xr_19_0, xr_20_0, xr_21_0, xr_23_0, xr_25_0, xr_26_0, xr_400_9, xr_501_10, xr_502_10, xr_501_25, xr_502_25, xr_700_20, xr_701_20, xr_702_20, xr_703_20, xr_700_39, xr_701_39, xr_702_39, xr_703_39, xr_800_44, xr_501_45, xr_502_45, xi_0, xp_0, xv_0, xi_9, xp_9, xv_9, xi_10, xp_10, xv_10, xi_25, xp_25, xv_25, xi_45, xp_45, xv_45, xi_20, xp_20, xv_20, xi_39, xp_39, xv_39, xi_44, xp_44, xv_44, xl_17, xs_17, xl_18, xs_18, xl_21, xs_21, xl_22, xs_22, xl_23, xs_23, xl_24, xs_24, xl_32, xs_32, xl_33, xs_33, xl_34, xs_34, xl_35, xs_35, xl_36, xs_36, xl_37, xs_37, xl_38, xs_38, xl_40, xs_40, xl_41, xs_41, xl_42, xs_42, xl_43, xs_43, xl_52, xs_52, xl_53, xs_53, xl_54, xs_54, xl_55, xs_55, neq, nlt, r_II, w1, zAI_sI, k2, k5, hp]
        · have hmv := hmm v.2.2.1
          have hd1 : wenc v / 10 % 10 = o1 v.2.2.1 := by unfold wenc; omega
          have k77 := k7' v.2.2.1
          have r9 := r939' v.2.2.1
          have hon := q_orNone hmv (oI v.2.2.1)
          rw [oI_st (by omega)] at hon
          have h10 : wenc v / 10 < 2 ^ 31 := by omega
          unfold f_X9_firstAt f_X9_firstAt_J101 f_X9_firstAt_J96
          generalize (if oI v.2.2.1 < nI 0 then nI 6 else nI 0) = st at *
          simp (disch := first | exact hmv | omega) only [mR940, ml_way, mgI, mvc, bind_s, bnd2_s, lI, nlt, neq, Nat.lt_irrefl, if_false, if_true, hnn, hn, r9, k77, zremN, zdivN, hd1, o1_sub, hon]
          rfl
      · refine both v.2.2.2 (by omega) ?_ ?_
        · have hp := hpa v.2.2.2
          unfold f_X0_firstAt f_X0_firstAt_J39 f_X0_firstAt_J118
          simp (disch := first | exact x0 | exact x1 | omega) [hin, hin2, n1n0, bnd2_s, lI, xr_0_0, xr_1_0, xr_5_0, xr_6_0, xr_10_0, xr_11_0, xr_13_0, xr_14_0, xr_15_0, xr_16_0, xr_17_0, xr_19_0, xr_20_0, xr_21_0, xr_23_0, xr_25_0, xr_26_0, xr_400_9, xr_501_10, xr_502_10, xr_501_25, xr_502_25, xr_700_20, xr_701_20, xr_702_20, xr_703_20, xr_700_39, xr_701_39, xr_702_39, xr_703_39, xr_800_44, xr_501_45, xr_502_45, xi_0, xp_0, xv_0, xi_9, xp_9, xv_9, xi_10, xp_10, xv_10, xi_25, xp_25, xv_25, xi_45, xp_45, xv_45, xi_20, xp_20, xv_20, xi_39, xp_39, xv_39, xi_44, xp_44, xv_44, xl_17, xs_17, xl_18, xs_18, xl_21, xs_21, xl_22, xs_22, xl_23, xs_23, xl_24, xs_24, xl_32, xs_32, xl_33, xs_33, xl_34, xs_34, xl_35, xs_35, xl_36, xs_36, xl_37, xs_37, xl_38, xs_38, xl_40, xs_40, xl_41, xs_41, xl_42, xs_42, xl_43, xs_43, xl_52, xs_52, xl_53, xs_53, xl_54, xs_54, xl_55, xs_55, neq, nlt, r_II, w1, zAI_sI, k2, k6, hp]
        · have hmv := hmm v.2.2.2
          have hd1 : wenc v % 10 = o1 v.2.2.2 := by unfold wenc; omega
          have k77 := k7' v.2.2.2
          have r9 := r939' v.2.2.2
          have hon := q_orNone hmv (oI v.2.2.2)
          rw [oI_st (by omega)] at hon
          unfold f_X9_firstAt f_X9_firstAt_J101 f_X9_firstAt_J96
          generalize (if oI v.2.2.2 < nI 0 then nI 6 else nI 0) = st at *
          simp (disch := first | exact hmv | omega) only [mR940, ml_way, mgI, mvc, bind_s, bnd2_s, lI, nlt, neq, Nat.lt_irrefl, if_false, if_true, hnn, hn, r9, k77, zremN, zdivN, hd1, o1_sub, hon]
          rfl
    · have hok2 : ok i ws.length = false := by simpa using hok2
      rw [hok2] at hin2
      have hin2 : f_X0_isIn (i.toInt64) (0 : Int64) ((nI ws.length - nI 1).toInt64) σ = some (nI 0, σ) := hin2
      have x1 : CInv x (sI σ 7 x (nI 6)) := x0
      have m1 : MInv m (sI σ 7 x (nI 6)) := h.2.2.2.1
      have r939 : ¬ i < nI 0 → ¬ i < zI (sI σ 7 x (nI 6)) 939 m := by
        intro h0 h1
        rw [r_II, if_neg (by omega)] at h1
        rcases w3 with w3 | ⟨w3, w5⟩
        · rw [w3] at h1
          unfold ok at hok2
          simp [h0, h1] at hok2
        · rw [w3] at h1
          exact h0 (Int32.lt_trans h1 mlt0)
      refine Pr.of h.1 (R := mI) (v := nI 6) (τ1 := sI σ 7 x (nI 6)) (τ2 := sI σ 7 x (nI 6)) ?_ (FX.refl _) ?_ (FR.refl _)
      · unfold f_X0_firstAt f_X0_firstAt_J39
        simp (disch := first | exact x0 | exact x1 | omega) [hin, hin2, n1n0, bnd2_s, lI, xp_0, xi_0, r_II, mI_eq, nlt, w1]
      · unfold f_X9_firstAt f_X9_firstAt_J27 f_X9_refuse
        by_cases e : i < nI 0
        · simp (disch := first | exact m1 | omega) [mvc, bnd2_s, lI, mI_eq, mpI, e1, e2, e]
        · have r9 := r939 e
          simp (disch := first | exact m1 | omega) only [mvc, bnd2_s, bind_s, lI, mI_eq, mpI, mgI, e1, e2, e, r9, if_false]
end
