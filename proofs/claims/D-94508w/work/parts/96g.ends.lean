set_option maxRecDepth 100000
section
variable {m : Nat} {σ τ τ' : ZT} {T : Nat → Int32} {N i j o : Nat}
theorem NN_go {j' : Nat} (h : f_X9_behindEnds_L2 m (nI j) τ = some (.inl (nI j', τ'))) : NN m j τ = NN m j' τ' := by
  have e : loopC (fun s : (Int32 × ZT) => f_X9_behindEnds_L2 m s.1 s.2) (nI j, τ) = loopC (fun s : (Int32 × ZT) => f_X9_behindEnds_L2 m s.1 s.2) (nI j', τ') := by
    rw [loopC_step]
    show Option.bind (f_X9_behindEnds_L2 m (nI j) τ) _ = _
    rw [h]
    rfl
  unfold NN f_X9_behindEnds
  rw [e]
theorem NN_end (h : f_X9_behindEnds_L2 m (nI j) τ = some (.inr (nI j, τ))) : NN m j τ = MM m j τ := by
  have e : loopC (fun s : (Int32 × ZT) => f_X9_behindEnds_L2 m s.1 s.2) (nI j, τ) = some (nI j, τ) := by
    rw [loopC_step]
    show Option.bind (f_X9_behindEnds_L2 m (nI j) τ) _ = _
    rw [h]
    rfl
  unfold NN f_X9_behindEnds
  rw [e]
  rfl
theorem nn_last (i1 : MInv m τ) (eT : zAI τ (m + 1) = T) (hN : T 4 = nI N) : NN m N τ = MM m N τ := by
  refine NN_end ?_
  unfold f_X9_behindEnds_L2
  rw [mR900 i1, bind_s, q_n i1 eT hN, bind_s, if_neg (Int32.lt_irrefl)]
theorem mm_last (i1 : MInv m τ) (eT : zAI τ (m + 1) = T) (hN : T 4 = nI N) : MM m N τ = some (.inr τ) := by
  rw [MM_st]
  unfold f_X9_runs_L55
  rw [mR900 i1, bind_s, q_n i1 eT hN, bind_s, if_neg (Int32.lt_irrefl)]
  rfl
theorem nn_row (i1 : MInv m τ) (eT : zAI τ (m + 1) = T) (hN : T 4 = nI N) (hN60 : N ≤ 60) (hj : j < N) (hk : ¬ rw5 T j 0 = nI 28) : NN m j τ = MM m j τ := by
  refine NN_end ?_
  unfold f_X9_behindEnds_L2
  rw [mR900 i1, bind_s, q_n i1 eT hN, bind_s, if_pos (show nI j < nI N from nI_lt hj (by omega)), bind_s, ix0, q_rd i1 eT (by omega) (by decide), bind_s, if_neg (show ¬ rw5 T j 0 = (28 : Int32) from hk)]
theorem q_end (i1 : MInv m τ) (eT : zAI τ (m + 1) = T) (hN : T 4 = nI N) (hN60 : N ≤ 60) (hj : j < N) (hk : rw5 T j 0 = nI 28) (h4 : rw5 T j 4 = nI o) (ho : o < 60) : f_X9_behindEnds_L2 m (nI j) τ = if rw5 T o 0 = (27 : Int32) then (if (0 : Int32) < zAI τ (m + 19) o then f_X9_behindEnds_J72_2 m (nI j) (nI o) (1 : Int32) τ else f_X9_behindEnds_J71_2 m (nI j) (nI o) τ) else f_X9_behindEnds_J71_2 m (nI j) (nI o) τ := by
  have d4 := q_rd i1 eT (i := j) (j := 4) (by omega) (by decide)
  rw [h4] at d4
  have e4 : nI (120 + 5 * j + 0) + (4 : Int32) = nI (120 + 5 * j + 4) := ixk j 4
  unfold f_X9_behindEnds_L2
  rw [mR900 i1, bind_s, q_n i1 eT hN, bind_s, if_pos (show nI j < nI N from nI_lt hj (by omega)), bind_s, ix0, q_rd i1 eT (by omega) (by decide), bind_s, hk, if_pos (show nI 28 = (28 : Int32) from rfl), bind_s, e4, d4, bind_s, bind_s, ix0, q_rd i1 eT ho (by decide), bind_s, mR949 i1, bind_s, ml_rounds i1 (by omega), bind_s]
theorem nn_back (i1 : MInv m τ) (eT : zAI τ (m + 1) = T) (hN : T 4 = nI N) (hN60 : N ≤ 60) (hj : j < N) (hk : rw5 T j 0 = nI 28) (h4 : rw5 T j 4 = nI o) (ho : o < 60) (h27 : rw5 T o 0 = nI 27) {r : Nat} (hr : zAI τ (m + 19) o = nI (r + 1)) (hr2 : r < 1000) : NN m j τ = NN m (o + 1) (sAI τ (m + 19) o (nI r)) := by
  refine NN_go ?_
  rw [q_end i1 eT hN hN60 hj hk h4 ho, h27, if_pos (show nI 27 = (27 : Int32) from rfl), hr, if_pos (show (0 : Int32) < nI (r + 1) from nI_lt (a := 0) (by omega) (by omega))]
  unfold f_X9_behindEnds_J72_2
  have hsub : nI (r + 1) - (1 : Int32) = nI r := by
    show nI (r + 1) - nI 1 = nI r
    rw [nsub (by omega)]
    rfl
  have e : nI o + (1 : Int32) = nI (o + 1) := by
    show nI o + nI 1 = _
    rw [nI_add]
  rw [mR949 i1, bind_s, ml_rounds i1 (by omega), bind_s, hr, if_neg (show ¬ (1 : Int32) = 0 by decide)]
  unfold f_X9_behindEnds_J91_2
  rw [hsub, ms_rounds i1 (by omega), bind_s, if_neg (show ¬ (1 : Int32) = 0 by decide), e]
  rfl
theorem nn_on (i1 : MInv m τ) (eT : zAI τ (m + 1) = T) (hN : T 4 = nI N) (hN60 : N ≤ 60) (hj : j < N) (hk : rw5 T j 0 = nI 28) (h4 : rw5 T j 4 = nI o) (ho : o < 60) (hno : rw5 T o 0 = nI 27 → zAI τ (m + 19) o = nI 0) : NN m j τ = NN m (j + 1) (sAI τ (m + 19) o (zAI τ (m + 19) o)) := by
  refine NN_go ?_
  have h71 : f_X9_behindEnds_J71_2 m (nI j) (nI o) τ = some (.inl (nI (j + 1), sAI τ (m + 19) o (zAI τ (m + 19) o))) := by
    have e : nI j + (1 : Int32) = nI (j + 1) := by
      show nI j + nI 1 = _
      rw [nI_add]
    unfold f_X9_behindEnds_J71_2 f_X9_behindEnds_J72_2
    rw [mR949 i1, bind_s, ml_rounds i1 (by omega), bind_s, if_pos rfl]
    unfold f_X9_behindEnds_J91_2
    rw [Int32.sub_zero, ms_rounds i1 (by omega), bind_s, if_pos rfl, e]
    rfl
  rw [q_end i1 eT hN hN60 hj hk h4 ho]
  by_cases h27 : rw5 T o 0 = nI 27
  · rw [if_pos (show rw5 T o 0 = (27 : Int32) from h27), if_neg (show ¬ (0 : Int32) < zAI τ (m + 19) o by rw [hno h27]; decide), h71]
  · rw [if_neg (show ¬ rw5 T o 0 = (27 : Int32) from h27), h71]
/-! the three tests -/
theorem q_hnAt (i1 : MInv m τ) (eT : zAI τ (m + 1) = T) (hT : TW T) (hi : i < 60) {p pl : Nat} (hp : p < fn T 2) (hk : rw5 T i 0 = nI 2415) (h1 : rw5 T i 1 = nI p) (h2 : rw5 T i 2 = nI pl) : f_X9_holdsNow m (nI (120 + 5 * i + 0)) τ = some (bI (decide (zAI τ (m + 9) p = nI pl)), τ) := by
  have n4 := hT.2.2.2.1
  have d0 := q_rd i1 eT (i := i) (j := 0) hi (by decide)
  have d1 := q_rd i1 eT (i := i) (j := 1) hi (by decide)
  have d2 := q_rd i1 eT (i := i) (j := 2) hi (by decide)
  rw [hk] at d0
  rw [h1] at d1
  rw [h2] at d2
  have e1 : nI (120 + 5 * i + 0) + (1 : Int32) = nI (120 + 5 * i + 1) := ixk i 1
  have e2 : nI (120 + 5 * i + 0) + (2 : Int32) = nI (120 + 5 * i + 2) := ixk i 2
  have hP := q_isPerson i1 (by rw [eT]; exact hT) (nI p)
  rw [eT, ok_nI (by omega) hp] at hP
  unfold f_X9_holdsNow f_X9_holdsNow_J96 f_X9_holdsNow_J92 f_X9_holdsNow_J97
  rw [mR900 i1, bind_s, d0, bind_s, bind_s, e1, d1, bind_s, if_neg (show ¬ nI 2415 - (2400 : Int32) = 25 by decide), mvc i1, hP, bnd2_s, if_neg (show ¬ bI true = 0 by decide), if_neg (show ¬ nI 2415 - (2400 : Int32) = 26 by decide), mR924 i1, bind_s, ml_now i1 (by omega), bind_s, mR900 i1, bind_s, e2, d2, bind_s]
  by_cases h : zAI τ (m + 9) p = nI pl
  · rw [if_pos h, decide_eq_true h]; rfl
  · rw [if_neg h, decide_eq_false h]; rfl
theorem q_hnThere (i1 : MInv m τ) (eT : zAI τ (m + 1) = T) (hT : TW T) (hi : i < 60) {b : Nat} (hb : b < fn T 1) (hk : rw5 T i 0 = nI 2425) (h1 : rw5 T i 1 = nI b) : f_X9_holdsNow m (nI (120 + 5 * i + 0)) τ = some (bI (sHang T (zAI τ (m + 9)) (zAI τ (m + 10)) (zI τ 926 m) (zI τ 928 m) (zI τ 927 m) b (nI 0)), τ) := by
  have n8 := hT.2.2.1
  have d0 := q_rd i1 eT (i := i) (j := 0) hi (by decide)
  have d1 := q_rd i1 eT (i := i) (j := 1) hi (by decide)
  rw [hk] at d0
  rw [h1] at d1
  have e1 : nI (120 + 5 * i + 0) + (1 : Int32) = nI (120 + 5 * i + 1) := ixk i 1
  have hP := q_isBridge i1 (by rw [eT]; exact hT) (nI b)
  rw [eT, ok_nI (by omega) hb] at hP
  have hH : f_X9_hangsBy m (nI b) (0 : Int32) τ = _ := q_hangsBy i1 (by rw [eT]; exact hT) (by rw [eT]; exact hb) (nI 0)
  rw [eT] at hH
  unfold f_X9_holdsNow f_X9_holdsNow_J47 f_X9_holdsNow_J48
  rw [mR900 i1, bind_s, d0, bind_s, bind_s, e1, d1, bind_s, if_pos (show nI 2425 - (2400 : Int32) = 25 by decide), mvc i1, hP, bnd2_s, if_neg (show ¬ bI true = 0 by decide), mvc i1, hH, bnd2_s]
  cases sHang T (zAI τ (m + 9)) (zAI τ (m + 10)) (zI τ 926 m) (zI τ 928 m) (zI τ 927 m) b (nI 0) with
  | true => rfl
  | false => rfl
theorem q_hnHolds (i1 : MInv m τ) (eT : zAI τ (m + 1) = T) (hT : TW T) (hi : i < 60) {p : Nat} (hp : p < fn T 2) (hk : rw5 T i 0 = nI 2426) (h1 : rw5 T i 1 = nI p) : f_X9_holdsNow m (nI (120 + 5 * i + 0)) τ = some (bI (lo T (zAI τ (m + 10)) p).isSome, τ) := by
  have n4 := hT.2.2.2.1
  have d0 := q_rd i1 eT (i := i) (j := 0) hi (by decide)
  have d1 := q_rd i1 eT (i := i) (j := 1) hi (by decide)
  rw [hk] at d0
  rw [h1] at d1
  have e1 : nI (120 + 5 * i + 0) + (1 : Int32) = nI (120 + 5 * i + 1) := ixk i 1
  have hP := q_isPerson i1 (by rw [eT]; exact hT) (nI p)
  rw [eT, ok_nI (by omega) hp] at hP
  have hH := q_loadOf i1 (by rw [eT]; exact hT) p
  rw [eT] at hH
  unfold f_X9_holdsNow f_X9_holdsNow_J96 f_X9_holdsNow_J92 f_X9_holdsNow_J97
  rw [mR900 i1, bind_s, d0, bind_s, bind_s, e1, d1, bind_s, if_neg (show ¬ nI 2426 - (2400 : Int32) = 25 by decide), mvc i1, hP, bnd2_s, if_neg (show ¬ bI true = 0 by decide), if_pos (show nI 2426 - (2400 : Int32) = 26 by decide), mvc i1, hH, bnd2_s]
  cases hl : lo T (zAI τ (m + 10)) p with
  | none => rfl
  | some l =>
    have hl2 : l < 2 ^ 31 := by
      have := lo_lt hl
      have n2 := hT.2.2.2.2.1
      omega
    have hne : ¬ oI (some l) = (-1 : Int32) := fun hh => by
      have hh : nI l = mI := hh
      rw [nI_mI hl2] at hh
      exact hh
    rw [if_neg hne]
    rfl
end
