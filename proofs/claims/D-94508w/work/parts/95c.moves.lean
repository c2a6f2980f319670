set_option maxRecDepth 100000
/-- the slot with where all are -/
def stay (T : Nat → Int32) (r : St) : Nat → Int32 := fun i => if 110 ≤ i ∧ i < 114 then r.1 (i - 110) else if 114 ≤ i ∧ i < 116 then r.2 (i - 114) else T i
section
variable {x m t a1 a2 : Nat} {σ σ' σ'' : ZT} {own : Nat → Nat} {T T' : Nat → Int32} {N : Nat → Int64} {B P O : Nat → Nat}
theorem stay_te (T : Nat → Int32) (r : St) (i : Nat) (hi : ¬ (110 ≤ i ∧ i ≤ 115)) : stay T r i = T i := by
  unfold stay
  rw [if_neg (by omega), if_neg (by omega)]
theorem stay_1 (T : Nat → Int32) (r : St) {p : Nat} (hp : p < 4) : stay T r (110 + p) = r.1 p := by
  unfold stay
  rw [if_pos (by omega)]
  show r.1 (110 + p - 110) = r.1 p
  rw [Nat.add_sub_cancel_left]
theorem stay_2 (T : Nat → Int32) (r : St) {p : Nat} (hp : p < 2) : stay T r (114 + p) = r.2 p := by
  unfold stay
  rw [if_neg (by omega), if_pos (by omega)]
  show r.2 (114 + p - 114) = r.2 p
  rw [Nat.add_sub_cancel_left]
theorem stay_agr (hT : TW T) (r : St) : Agr (stay T r) (nowS (stay T r)) r := by
  have n2 := hT.2.2.2.1
  have n3 := hT.2.2.2.2.1
  refine ⟨fun p hp => ?_, fun l hl => ?_⟩
  · rw [fn_te (stay_te T r 2 (by omega))] at hp
    exact stay_1 T r (by omega)
  · rw [fn_te (stay_te T r 3 (by omega))] at hl
    exact stay_2 T r (by omega)
theorem Agr.te {s s' : St} (h : Agr T s s') (e : ∀ i, i < 110 → T' i = T i) : Agr T' s s' := by
  unfold Agr
  rw [fn_te (e 2 (by omega)), fn_te (e 3 (by omega))]
  exact h
theorem SV.te {s : St} (h : SV T s) (e : ∀ i, i < 110 → T' i = T i) : SV T' s := by
  unfold SV
  rw [fn_te (e 0 (by omega)), fn_te (e 2 (by omega)), fn_te (e 3 (by omega))]
  exact h
theorem ste (T : Nat → Int32) (r : St) : ∀ i, i < 110 → stay T r i = T i := fun i hi => stay_te T r i (by omega)
theorem up4 (T : Nat → Int32) (f : Nat → Int32) : up (up (up (up T 110 (f 0)) 111 (f 1)) 112 (f 2)) 113 (f 3) = fun i => if 110 ≤ i ∧ i < 114 then f (i - 110) else T i := by
  funext i
  unfold up
  by_cases h : 110 ≤ i ∧ i < 114
  · rw [if_pos h]
    have : i = 110 ∨ i = 111 ∨ i = 112 ∨ i = 113 := by omega
    rcases this with rfl | rfl | rfl | rfl <;> rfl
  · rw [if_neg h, if_neg (by omega), if_neg (by omega), if_neg (by omega), if_neg (by omega)]
theorem up6 (T : Nat → Int32) (f g : Nat → Int32) : up (up (fun i => if 110 ≤ i ∧ i < 114 then f (i - 110) else T i) 114 (g 0)) 115 (g 1) = stay T (f, g) := by
  funext i
  show (if i = 115 then g 1 else if i = 114 then g 0 else if 110 ≤ i ∧ i < 114 then f (i - 110) else T i) = (if 110 ≤ i ∧ i < 114 then f (i - 110) else if 114 ≤ i ∧ i < 116 then g (i - 114) else T i)
  by_cases h : 110 ≤ i ∧ i < 114
  · rw [if_neg (by omega), if_neg (by omega), if_pos h, if_pos h]
  · by_cases h2 : 114 ≤ i ∧ i < 116
    · rw [if_neg h, if_pos h2]
      have : i = 114 ∨ i = 115 := by omega
      rcases this with rfl | rfl <;> rfl
    · rw [if_neg (by omega), if_neg (by omega), if_neg h, if_neg h, if_neg h2]
theorem q_staysSo (h : MInv m σ) (r : St) : f_X9_staysSo m (NL m σ r) = some (sAIr (NL m σ r) (m + 1) (stay (zAI σ (m + 1)) r)) := by
  have a1 : ∀ τ : ZT, MInv m τ → loopC (fun s : (Int32 × ZT) => f_X9_staysSo_L2 m s.1 s.2) (nI 0, τ) = some (sAIr τ (m + 1) (up (up (up (up (zAI τ (m + 1)) 110 (zAI τ (m + 9) 0)) 111 (zAI τ (m + 9) 1)) 112 (zAI τ (m + 9) 2)) 113 (zAI τ (m + 9) 3))) := by
    intro τ h
    have key := loop_go (body := fun s : (Int32 × ZT) => f_X9_staysSo_L2 m s.1 s.2) (fun k => (nI k, sAIr τ (m + 1) (foldN (fun j T => up T (110 + j) (zAI τ (m + 9) j)) k (zAI τ (m + 1))))) 4 (sAIr τ (m + 1) (foldN (fun j T => up T (110 + j) (zAI τ (m + 9) j)) 4 (zAI τ (m + 1)))) (fun k hk => ?_) ?_
    · simp only [foldN, sAIr_self] at key
      exact key
    · unfold f_X9_staysSo_L2
      simp (disch := first | exact h | omega | (simp only [Mi_sI, Mi_sL, Mi_sAI, Mi_sAL, Mi_sAIr, Mi_sALr]; exact h)) [mR900, mR901, mR905, mR906, mR907, mR908, mR909, mR921, mR924, mR925, mR929, mR930, mR931, mR932, mR934, mR935, mR936, mR940, mR949, mR950, mR951, ml_at, ml_names, ml_sort, ml_trayMany, ml_trays, ml_tape, ml_text, ml_opened, ml_now, ml_lies, ml_moveKind, ml_moveOne, ml_moveTwo, ml_moveThird, ml_far, ml_come, ml_good, ml_way, ml_rounds, ml_told0, ml_endAt, ms_at, ms_names, ms_sort, ms_trayMany, ms_trays, ms_tape, ms_text, ms_opened, ms_now, ms_lies, ms_moveKind, ms_moveOne, ms_moveTwo, ms_moveThird, ms_far, ms_come, ms_good, ms_way, ms_rounds, ms_told0, ms_endAt, mgI, mgL, mpI, mpL, mpZ, mvc, bnd2_s, bind_s, rz, lI, mI_eq, nI_add, pk_mul, nlt, nle, neq, nI_mI, mI_nI, nltm, mltn, nsub, zremN, zdivN, hk, zAIr_ne, zAIr_at, sAI_r, sAIr_sAIr, foldN]
    · unfold f_X9_staysSo_L2
      simp (disch := first | exact h | omega | (simp only [Mi_sI, Mi_sL, Mi_sAI, Mi_sAL, Mi_sAIr, Mi_sALr]; exact h)) [mR900, mR901, mR905, mR906, mR907, mR908, mR909, mR921, mR924, mR925, mR929, mR930, mR931, mR932, mR934, mR935, mR936, mR940, mR949, mR950, mR951, ml_at, ml_names, ml_sort, ml_trayMany, ml_trays, ml_tape, ml_text, ml_opened, ml_now, ml_lies, ml_moveKind, ml_moveOne, ml_moveTwo, ml_moveThird, ml_far, ml_come, ml_good, ml_way, ml_rounds, ml_told0, ml_endAt, ms_at, ms_names, ms_sort, ms_trayMany, ms_trays, ms_tape, ms_text, ms_opened, ms_now, ms_lies, ms_moveKind, ms_moveOne, ms_moveTwo, ms_moveThird, ms_far, ms_come, ms_good, ms_way, ms_rounds, ms_told0, ms_endAt, mgI, mgL, mpI, mpL, mpZ, mvc, bnd2_s, bind_s, rz, lI, mI_eq, nI_add, pk_mul, nlt, nle, neq, nI_mI, mI_nI, nltm, mltn, nsub, zremN, zdivN]
  have a2 : ∀ τ : ZT, MInv m τ → loopC (fun s : (Int32 × ZT) => f_X9_staysSo_L30 m s.1 s.2) (nI 0, τ) = some (sAIr τ (m + 1) (up (up (zAI τ (m + 1)) 114 (zAI τ (m + 10) 0)) 115 (zAI τ (m + 10) 1))) := by
    intro τ h
    have key := loop_go (body := fun s : (Int32 × ZT) => f_X9_staysSo_L30 m s.1 s.2) (fun k => (nI k, sAIr τ (m + 1) (foldN (fun j T => up T (114 + j) (zAI τ (m + 10) j)) k (zAI τ (m + 1))))) 2 (sAIr τ (m + 1) (foldN (fun j T => up T (114 + j) (zAI τ (m + 10) j)) 2 (zAI τ (m + 1)))) (fun k hk => ?_) ?_
    · simp only [foldN, sAIr_self] at key
      exact key
    · unfold f_X9_staysSo_L30
      simp (disch := first | exact h | omega | (simp only [Mi_sI, Mi_sL, Mi_sAI, Mi_sAL, Mi_sAIr, Mi_sALr]; exact h)) [mR900, mR901, mR905, mR906, mR907, mR908, mR909, mR921, mR924, mR925, mR929, mR930, mR931, mR932, mR934, mR935, mR936, mR940, mR949, mR950, mR951, ml_at, ml_names, ml_sort, ml_trayMany, ml_trays, ml_tape, ml_text, ml_opened, ml_now, ml_lies, ml_moveKind, ml_moveOne, ml_moveTwo, ml_moveThird, ml_far, ml_come, ml_good, ml_way, ml_rounds, ml_told0, ml_endAt, ms_at, ms_names, ms_sort, ms_trayMany, ms_trays, ms_tape, ms_text, ms_opened, ms_now, ms_lies, ms_moveKind, ms_moveOne, ms_moveTwo, ms_moveThird, ms_far, ms_come, ms_good, ms_way, ms_rounds, ms_told0, ms_endAt, mgI, mgL, mpI, mpL, mpZ, mvc, bnd2_s, bind_s, rz, lI, mI_eq, nI_add, pk_mul, nlt, nle, neq, nI_mI, mI_nI, nltm, mltn, nsub, zremN, zdivN, hk, zAIr_ne, zAIr_at, sAI_r, sAIr_sAIr, foldN]
    · unfold f_X9_staysSo_L30
      simp (disch := first | exact h | omega | (simp only [Mi_sI, Mi_sL, Mi_sAI, Mi_sAL, Mi_sAIr, Mi_sALr]; exact h)) [mR900, mR901, mR905, mR906, mR907, mR908, mR909, mR921, mR924, mR925, mR929, mR930, mR931, mR932, mR934, mR935, mR936, mR940, mR949, mR950, mR951, ml_at, ml_names, ml_sort, ml_trayMany, ml_trays, ml_tape, ml_text, ml_opened, ml_now, ml_lies, ml_moveKind, ml_moveOne, ml_moveTwo, ml_moveThird, ml_far, ml_come, ml_good, ml_way, ml_rounds, ml_told0, ml_endAt, ms_at, ms_names, ms_sort, ms_trayMany, ms_trays, ms_tape, ms_text, ms_opened, ms_now, ms_lies, ms_moveKind, ms_moveOne, ms_moveTwo, ms_moveThird, ms_far, ms_come, ms_good, ms_way, ms_rounds, ms_told0, ms_endAt, mgI, mgL, mpI, mpL, mpZ, mvc, bnd2_s, bind_s, rz, lI, mI_eq, nI_add, pk_mul, nlt, nle, neq, nI_mI, mI_nI, nltm, mltn, nsub, zremN, zdivN]
  have h1 : MInv m (NL m σ r) := h
  have b1 := a1 _ h1
  rw [up4, NL_at, NL_ne _ (by omega) (by omega)] at b1
  have h2 : MInv m (sAIr (NL m σ r) (m + 1) (fun i => if 110 ≤ i ∧ i < 114 then r.1 (i - 110) else zAI σ (m + 1) i)) := h
  have b2 := a2 _ h2
  rw [zAIr_at, zAIr_ne _ (by omega), NL_lies, up6, sAIr_sAIr] at b2
  unfold f_X9_staysSo
  simp only [lI, b1, bind_s, b2]
theorem q_is (h : MInv m σ) (v : Int32) : f_X9_is m v σ = some (if v = nI 0 then nI 1 else nI 0, sI σ 902 m v) := by
  unfold f_X9_is f_X9_is_J14
  by_cases e : v = nI 0
  · simp (disch := first | exact h | omega) [mpI, lI, e, rz, bind_s]
  · simp (disch := first | exact h | omega) [mpI, lI, e, rz, bind_s]
theorem q_doneOr (h : MInv m σ) (o : Option St) (y : St) : f_X9_doneOr m (if o.isSome then nI 1 else nI 0) (NL m σ (o.getD y)) = match o with
    | none => some (nI 0, sI (NL m σ y) 902 m (nI 7))
    | some r => some (nI 1, sI (sAIr (NL m σ r) (m + 1) (stay (zAI σ (m + 1)) r)) 902 m (nI 0)) := by
  cases o with
  | none =>
    have h1 : MInv m (NL m σ y) := h
    have i1 := q_is h1 (nI 7)
    rw [if_neg (by decide)] at i1
    unfold f_X9_doneOr f_X9_doneOr_J8 f_X9_doneOr_J19
    simp (disch := first | exact h1 | omega) [mvc, lI, i1, bnd2_s, rz]
  | some r =>
    have h1 : MInv m (NL m σ r) := h
    have h2 : MInv m (sAIr (NL m σ r) (m + 1) (stay (zAI σ (m + 1)) r)) := h
    have i1 := q_is h2 (nI 0)
    rw [if_pos rfl] at i1
    have i2 := q_staysSo h r
    unfold f_X9_doneOr f_X9_doneOr_J8 f_X9_doneOr_J19
    simp (disch := first | exact h1 | exact h2 | omega) [mvc, lI, i1, i2, bnd2_s, rz, n1n0]
/-! the model's three movers, against sMv -/
theorem q_mv01 (h : MInv m σ) (hT : TW (zAI σ (m + 1))) {v : Mv} (hv : MvW (zAI σ (m + 1)) v) (h2 : v.1 < 2) {br : Nat} (hbr : v.2.2.2 = some br) (y : St) : f_X9_goesOver m (nI v.2.1) (oI v.2.2.1) (nI br) (NL m σ y) = some (if (sMv (zAI σ (m + 1)) (mOt m σ) v y).isSome then nI 1 else nI 0, NL m σ ((sMv (zAI σ (m + 1)) (mOt m σ) v y).getD y)) := by
  have h1 : MInv m (NL m σ y) := h
  have e1 : zAI (NL m σ y) (m + 1) = zAI σ (m + 1) := NL_ne _ (by omega) (by omega)
  obtain ⟨g4, br', g5, g6⟩ := hv.2.1 h2
  rw [hbr] at g5
  cases g5
  have hg := q_goesOver (a := v.2.1) (b := v.2.2.1) (br := br) h1 (by rw [e1]; exact hT) (by rw [e1]; exact hv.1) (by rw [e1]; exact g4) (by rw [e1]; exact g6)
  rw [e1, NL_at, NL_lies, NL_I, NL_set9] at hg
  rw [hg]
  unfold sMv mOt
  simp only [h2, if_true, hbr]
  by_cases z1 : nI br = zI σ 926 m
  · simp [z1]
  · by_cases z2 : 0 < sWhy (zAI σ (m + 1)) y.1 y.2 (zI σ 926 m) (zI σ 928 m) (zI σ 927 m) v.2.1 v.2.2.1 br
    · simp [z1, z2]
    · simp [z1, z2]
theorem q_mv2 (h : MInv m σ) (hT : TW (zAI σ (m + 1))) {v : Mv} (hv : MvW (zAI σ (m + 1)) v) (h2 : v.1 = 2) {l : Nat} (hl : v.2.2.2 = some l) (y : St) : f_X9_lifts m (nI v.2.1) (nI l) (NL m σ y) = some (if (sMv (zAI σ (m + 1)) (mOt m σ) v y).isSome then nI 1 else nI 0, NL m σ ((sMv (zAI σ (m + 1)) (mOt m σ) v y).getD y)) := by
  have h1 : MInv m (NL m σ y) := h
  have e1 : zAI (NL m σ y) (m + 1) = zAI σ (m + 1) := NL_ne _ (by omega) (by omega)
  obtain ⟨l', g5, g6⟩ := hv.2.2 h2
  rw [hl] at g5
  cases g5
  have hg := q_lifts (a := v.2.1) (l := l) h1 (by rw [e1]; exact hT) (by rw [e1]; exact hv.1) (by rw [e1]; exact g6)
  rw [e1, NL_at, NL_lies, NL_set10] at hg
  have hs : sMv (zAI σ (m + 1)) (mOt m σ) v y = if y.2 l = y.1 v.2.1 ∧ lo (zAI σ (m + 1)) y.2 v.2.1 = none ∧ ¬ zAI σ (m + 1) (86 + 5 * v.2.1 + 3) < zAI σ (m + 1) (106 + 2 * l) then some (y.1, up y.2 l (nI (6 + v.2.1))) else none := by
    unfold sMv
    rw [if_neg (by omega), if_pos h2, hl]
  rw [hg, hs]
  by_cases z : y.2 l = y.1 v.2.1 ∧ lo (zAI σ (m + 1)) y.2 v.2.1 = none ∧ ¬ zAI σ (m + 1) (86 + 5 * v.2.1 + 3) < zAI σ (m + 1) (106 + 2 * l)
  · rw [if_pos z, if_pos z]
    rfl
  · rw [if_neg z, if_neg z]
    rfl
theorem q_mv3 (h : MInv m σ) (hT : TW (zAI σ (m + 1))) {v : Mv} (hv : MvW (zAI σ (m + 1)) v) (h2 : v.1 = 3) (y : St) : f_X9_drops m (nI v.2.1) (NL m σ y) = some (if (sMv (zAI σ (m + 1)) (mOt m σ) v y).isSome then nI 1 else nI 0, NL m σ ((sMv (zAI σ (m + 1)) (mOt m σ) v y).getD y)) := by
  have h1 : MInv m (NL m σ y) := h
  have e1 : zAI (NL m σ y) (m + 1) = zAI σ (m + 1) := NL_ne _ (by omega) (by omega)
  have hg := q_drops (a := v.2.1) h1 (by rw [e1]; exact hT) (by rw [e1]; exact hv.1)
  rw [e1, NL_at, NL_lies] at hg
  rw [hg]
  unfold sMv
  simp only [h2]
  cases hz : lo (zAI σ (m + 1)) y.2 v.2.1 with
  | none => simp
  | some l => simp [NL_set10]
/-- the component does a move -/
theorem p_doesNow (h : SB x m σ t T B P O) {v : Mv} (hv : MvW T v) (h3 : v.1 < 4) (h0 : v.1 = 0 → v.2.2.1 = none) (h1 : v.1 = 1 → ∃ q, v.2.2.1 = some q) : f_X0_does x (nI 1) (nI v.1) (nI v.2.1) (oI v.2.2.1) (oI v.2.2.2) σ = match sMv T (zI σ 503 (x + 10), zI σ 504 (x + 10), zI σ 505 (x + 10)) v (zAI σ (x + 17), zAI σ (x + 18)) with
    | none => some (nI 0, sI (sI σ 7 x (nI 0)) 7 x (nI 7))
    | some r => some (nI 1, CN (x + 17) (x + 18) (sI σ 7 x (nI 0)) r) := by
  have hT := h.2.2.2.2.2.1
  have x0 : CInv x σ := h.2.2.1.1
  have x1 : CInv x (sI σ 7 x (nI 0)) := x0
  have hh := h.sq (SQ.st7 (nI 0))
  have sp : SP (sI σ 7 x (nI 0)) (x + 10) (x + 17) (x + 18) t T B P O := hh.2.2.1.spN
  have hS1 : SV T (zAI (sI σ 7 x (nI 0)) (x + 17), zAI (sI σ 7 x (nI 0)) (x + 18)) := h.2.2.2.2.2.2.1.agr hh.2.2.2.2.2.2.2.1.symm
  have hm := p_moves sp hT hS1 hv h3 h0 h1
  have e : ∀ f, f = 503 ∨ f = 504 ∨ f = 505 → zI (sI σ 7 x (nI 0)) f (x + 10) = zI σ f (x + 10) := fun f hf => by rw [r_II, if_neg (by omega)]
  rw [e 503 (by omega), e 504 (by omega), e 505 (by omega), show zAI (sI σ 7 x (nI 0)) = zAI σ from rfl] at hm
  unfold f_X0_does f_X0_does_J10 f_X0_does_J42 f_X0_does_J54
  cases hc : sMv T (zI σ 503 (x + 10), zI σ 504 (x + 10), zI σ 505 (x + 10)) v (zAI σ (x + 17), zAI σ (x + 18)) with
  | none =>
    rw [hc] at hm
    have hm : f_X5_moves (x + 10) (nI v.1) (nI v.2.1) (oI v.2.2.1) (oI v.2.2.2) (sI σ 7 x (nI 0)) = some (nI 0, sI σ 7 x (nI 0)) := hm
    have x2 : CInv x (sI (sI σ 7 x (nI 0)) 7 x (nI 7)) := x0
    simp (disch := first | exact x0 | exact x1 | exact x2 | omega) [lI, n1n0, xp_0, xr_10_0, xr_400_9, xv_10, hm, bnd2_s, xi_0, r_II, rz, neq]
  | some r =>
    rw [hc] at hm
    have hm : f_X5_moves (x + 10) (nI v.1) (nI v.2.1) (oI v.2.2.1) (oI v.2.2.2) (sI σ 7 x (nI 0)) = some (nI 1, CN (x + 17) (x + 18) (sI σ 7 x (nI 0)) r) := hm
    have x2 : CInv x (CN (x + 17) (x + 18) (sI σ 7 x (nI 0)) r) := x0
    have r7 : zI (CN (x + 17) (x + 18) (sI σ 7 x (nI 0)) r) 7 x = nI 0 := by
      show zI (sI σ 7 x (nI 0)) 7 x = nI 0
      rw [r_II, if_pos ⟨rfl, rfl⟩]
    simp (disch := first | exact x0 | exact x1 | exact x2 | omega) [lI, n1n0, xp_0, xr_10_0, xr_400_9, xv_10, hm, bnd2_s, xi_0, r7, rz, neq]
theorem p_doesNo (h : CInv x σ) (a b c d : Int32) : f_X0_does x (nI 0) a b c d σ = some (nI 0, sI σ 7 x (nI 1)) := by
  have x1 : CInv x (sI σ 7 x (nI 1)) := h
  unfold f_X0_does f_X0_does_J10 f_X0_does_J42 f_X0_does_J54
  simp (disch := first | exact h | exact x1 | omega) [lI, xp_0, xi_0, r_II, rz, neq]
/-- only what is now and the statuses have changed -/
def KX (x m : Nat) (σ τ : ZT) : Prop := zK τ = zK σ ∧ zN τ = zN σ ∧ zL τ = zL σ ∧ zR τ = zR σ ∧ zAL τ = zAL σ ∧ zAR τ = zAR σ ∧ (zsz τ = zsz σ ∧ zbc τ = zbc σ ∧ zbs τ = zbs σ) ∧ (∀ f a, ¬ (f = 7 ∧ a = x) → ¬ (f = 902 ∧ a = m) → zI τ f a = zI σ f a) ∧ ∀ a, ¬ (a = x + 17 ∨ a = x + 18 ∨ a = m + 1 ∨ a = m + 9 ∨ a = m + 10) → zAI τ a = zAI σ a
theorem KX.trans (h : KX x m σ σ') (g : KX x m σ' σ'') : KX x m σ σ'' := by
  obtain ⟨h1, h2, h3, h4, h5, h6, ⟨h7, h8, h9⟩, h10, h11⟩ := h
  obtain ⟨g1, g2, g3, g4, g5, g6, ⟨g7, g8, g9⟩, g10, g11⟩ := g
  exact ⟨g1.trans h1, g2.trans h2, g3.trans h3, g4.trans h4, g5.trans h5, g6.trans h6, ⟨g7.trans h7, g8.trans h8, g9.trans h9⟩, fun f a q1 q2 => (g10 f a q1 q2).trans (h10 f a q1 q2), fun a q => (g11 a q).trans (h11 a q)⟩
theorem KX.st7 (v : Int32) : KX x m σ (sI σ 7 x v) := ⟨rfl, rfl, rfl, rfl, rfl, rfl, ⟨rfl, rfl, rfl⟩, fun f a q1 _ => by rw [r_II, if_neg q1], fun _ _ => rfl⟩
theorem KX.st902 (v : Int32) : KX x m σ (sI σ 902 m v) := ⟨rfl, rfl, rfl, rfl, rfl, rfl, ⟨rfl, rfl, rfl⟩, fun f a _ q2 => by rw [r_II, if_neg q2], fun _ _ => rfl⟩
theorem KX.air {b : Nat} (hb : b = x + 17 ∨ b = x + 18 ∨ b = m + 1 ∨ b = m + 9 ∨ b = m + 10) (r : Nat → Int32) : KX x m σ (sAIr σ b r) := ⟨rfl, rfl, rfl, rfl, rfl, rfl, ⟨rfl, rfl, rfl⟩, fun f a _ _ => rfl, fun a q => zAIr_ne _ (fun e => q (by rw [e]; exact hb))⟩
theorem KX.cn (r : St) : KX x m σ (CN (x + 17) (x + 18) σ r) := (KX.air (by omega) _).trans (KX.air (by omega) _)
theorem KX.nl (r : St) : KX x m σ (NL m σ r) := (KX.air (by omega) _).trans (KX.air (by omega) _)
theorem RZ.act2 (h : RZ x m own σ) (hk : KX x m σ σ') (hs : zI σ' 7 x = zI σ' 902 m) {r : St} (e1 : zAI σ' (m + 1) = stay (zAI σ (m + 1)) r) (hS : SV (zAI σ (m + 1)) r) (hA : Agr (zAI σ (m + 1)) (zAI σ' (x + 17), zAI σ' (x + 18)) r) : RZ x m own σ' := by
  have hT : TW (zAI σ (m + 1)) := by
    obtain ⟨t, B, P, O, hb, -⟩ := h.sb
    exact hb.2.2.2.2.2.1
  have hxm := h.1
  have hf := h.2.1.2.1
  obtain ⟨k1, k2, k3, k4, k5, k6, ⟨k7, -, -⟩, k8, k9⟩ := hk
  refine h.act ⟨⟨by omega, fun a ha => by rw [k1]; exact hf a (by omega)⟩, fun a ha => by rw [k1, k2]; exact ⟨rfl, rfl⟩, fun f a _ _ _ _ _ => by rw [k4], fun a ha n1 n2 hA => ⟨fun f => k8 f a (by omega) (by omega), fun f => by rw [k3], k9 a hA, by rw [k5], by rw [k6]⟩, fun f hf => ⟨k8 f x (by omega) (by omega), by rw [k3]⟩, fun f hf => ⟨k8 f m (by omega) (by omega), by rw [k3]⟩⟩ (fun f a _ => by rw [k4]) hs (fun i hi => by rw [e1]; exact stay_te _ r i hi) ?_ ?_
  · rw [e1]
    exact (hS.te (ste _ r)).agr (stay_agr hT r).symm
  · rw [e1]
    exact (hA.te (ste _ r)).trans (stay_agr hT r).symm
theorem NB.ot (hn : NB x σ) (hb : SB x m σ t T B P O) : OtE (zI σ 503 (x + 10), zI σ 504 (x + 10), zI σ 505 (x + 10)) (mOt m σ) := by
  refine ⟨?_, fun p hp => ?_⟩
  · show zI σ 503 (x + 10) = zI σ 926 m
    rw [hn.1, hb.2.2.2.2.2.2.2.2.2.2.1]
  · show (if nI p = zI σ 504 (x + 10) then zI σ 505 (x + 10) else nI 0) = (if nI p = zI σ 928 m then zI σ 927 m else nI 0)
    rw [hn.2, hb.2.2.2.2.2.2.2.2.2.2.2, if_neg (fun hh => by rw [nI_mI (by omega)] at hh; exact hh)]
    split <;> rfl
theorem KX.ot (h : KX x m σ σ') (hxm : m = x + 56) : mOt m σ' = mOt m σ := by
  obtain ⟨k1, k2, k3, k4, k5, k6, k7, k8, k9⟩ := h
  unfold mOt
  rw [k8 926 m (by omega) (by omega), k8 928 m (by omega) (by omega), k8 927 m (by omega) (by omega)]
theorem KX.minv (h : KX x m σ σ') (g : MInv m σ) : MInv m σ' := by
  obtain ⟨k1, k2, k3, k4, k5, k6, k7, k8, k9⟩ := h
  unfold MInv
  rw [k1, k2, k4]
  exact g
theorem KX.sq (h : KX x m σ σ') (h1 : zAI σ' (x + 17) = zAI σ (x + 17)) (h2 : zAI σ' (x + 18) = zAI σ (x + 18)) (h3 : zAI σ' (m + 1) = zAI σ (m + 1)) : SQ x m σ σ' := by
  obtain ⟨k1, k2, k3, k4, k5, k6, k7, k8, k9⟩ := h
  refine ⟨k1, k3, k5, k6, k2, k7, fun f a _ => by rw [k4], fun f a z1 z2 z3 z4 => k8 f a (by omega) (by omega), fun a z1 z2 z3 => ?_⟩
  by_cases e1 : a = x + 17
  · rw [e1]; exact h1
  · by_cases e2 : a = x + 18
    · rw [e2]; exact h2
    · by_cases e3 : a = m + 1
      · rw [e3]; exact h3
      · exact k9 a (by omega)
/-- neither side does it -/
theorem act_no (h : RZ x m own σ) {τ1 : ZT} {y : St} (k1 : KX x m σ τ1) (z7 : zI τ1 7 x = nI 7) (z17 : zAI τ1 (x + 17) = zAI σ (x + 17)) (z18 : zAI τ1 (x + 18) = zAI σ (x + 18)) (zm : zAI τ1 (m + 1) = zAI σ (m + 1)) {c d : ZT → Option (Int32 × ZT)} (hc : c σ = some (nI 0, τ1)) (hd : d τ1 = some (nI 0, sI (NL m τ1 y) 902 m (nI 7))) : PR x m own σ c d := by
  have hxm := h.1
  have k2 : KX x m τ1 (sI (NL m τ1 y) 902 m (nI 7)) := (KX.nl y).trans (KX.st902 _)
  have k3 := k1.trans k2
  have q2 : SQ x m σ (sI (NL m τ1 y) 902 m (nI 7)) := k3.sq (by rw [zAI_sI, NL_ne _ (by omega) (by omega)]; exact z17) (by rw [zAI_sI, NL_ne _ (by omega) (by omega)]; exact z18) (by rw [zAI_sI, NL_ne _ (by omega) (by omega)]; exact zm)
  refine ⟨nI 0, _, _, own, hc, hd, h.sq q2 ?_, by rw [q2.2.2.2.2.2.1.2.1]; omega, by rw [q2.2.2.2.2.2.1.2.2]; omega⟩
  rw [r_II, if_neg (by omega), r_II, if_pos ⟨rfl, rfl⟩, NL_I]
  exact z7
/-- both sides do it -/
theorem act_yes (h : RZ x m own σ) {τ1 : ZT} {r r2 : St} (k1 : KX x m σ τ1) (z7 : zI τ1 7 x = nI 0) (z17 : zAI τ1 (x + 17) = r.1) (z18 : zAI τ1 (x + 18) = r.2) (hr2 : SV (zAI σ (m + 1)) r2) (m3 : Agr (zAI σ (m + 1)) r r2) {c d : ZT → Option (Int32 × ZT)} (hc : c σ = some (nI 1, τ1)) (hd : d τ1 = some (nI 1, sI (sAIr (NL m τ1 r2) (m + 1) (stay (zAI σ (m + 1)) r2)) 902 m (nI 0))) : PR x m own σ c d := by
  have hxm := h.1
  have k2 : KX x m τ1 (sI (sAIr (NL m τ1 r2) (m + 1) (stay (zAI σ (m + 1)) r2)) 902 m (nI 0)) := ((KX.nl r2).trans (KX.air (by omega) _)).trans (KX.st902 _)
  have k3 := k1.trans k2
  refine ⟨nI 1, _, _, own, hc, hd, h.act2 k3 (r := r2) ?_ ?_ hr2 ?_, by rw [k3.2.2.2.2.2.2.1.2.1]; omega, by rw [k3.2.2.2.2.2.2.1.2.2]; omega⟩
  · rw [r_II, if_neg (by omega), r_II, if_pos ⟨rfl, rfl⟩, zI_sAIr, NL_I]
    exact z7
  · rw [zAI_sI, zAIr_at]
  · rw [zAI_sI, zAIr_ne _ (by omega), zAIr_ne _ (by omega), NL_ne _ (by omega) (by omega), NL_ne _ (by omega) (by omega), z17, z18]
    exact m3
/-- both sides do one move -/
theorem act_pair (h : RZ x m own σ) (hb : SB x m σ t (zAI σ (m + 1)) B P O) (hn : NB x σ) {v : Mv} (hv : MvW (zAI σ (m + 1)) v) {c d : ZT → Option (Int32 × ZT)}
    (hc : c σ = match sMv (zAI σ (m + 1)) (zI σ 503 (x + 10), zI σ 504 (x + 10), zI σ 505 (x + 10)) v (zAI σ (x + 17), zAI σ (x + 18)) with
      | none => some (nI 0, sI (sI σ 7 x (nI 0)) 7 x (nI 7))
      | some r => some (nI 1, CN (x + 17) (x + 18) (sI σ 7 x (nI 0)) r))
    (hd : ∀ τ y, MInv m τ → zAI τ (m + 1) = zAI σ (m + 1) → f_X9_takesNow m τ = some (NL m τ y) → d τ = match sMv (zAI σ (m + 1)) (mOt m τ) v y with
      | none => some (nI 0, sI (NL m τ y) 902 m (nI 7))
      | some r => some (nI 1, sI (sAIr (NL m τ r) (m + 1) (stay (zAI σ (m + 1)) r)) 902 m (nI 0))) : PR x m own σ c d := by
  have hT := hb.2.2.2.2.2.1
  have hS := hb.2.2.2.2.2.2.1
  have hN := hb.2.2.2.2.2.2.2.1
  have hxm : m = x + 56 := h.1
  rw [(hn.ot hb).mv hT hv] at hc
  -- behind the component
  have tk : ∀ τ, KX x m σ τ → zAI τ (m + 1) = zAI σ (m + 1) → ∃ y, Agr (zAI σ (m + 1)) y (nowS (zAI σ (m + 1))) ∧ d τ = match sMv (zAI σ (m + 1)) (mOt m σ) v y with
      | none => some (nI 0, sI (NL m τ y) 902 m (nI 7))
      | some r => some (nI 1, sI (sAIr (NL m τ r) (m + 1) (stay (zAI σ (m + 1)) r)) 902 m (nI 0)) := by
    intro τ k e
    have mm := k.minv hb.2.2.2.1
    have q := q_takesNow mm
    rw [e] at q
    refine ⟨_, mix_agr hT (nowS (zAI σ (m + 1))) (zAI τ (m + 9), zAI τ (m + 10)), ?_⟩
    rw [← k.ot hxm]
    exact hd τ _ mm e q
  cases hr : sMv (zAI σ (m + 1)) (mOt m σ) v (zAI σ (x + 17), zAI σ (x + 18)) with
  | none =>
    rw [hr] at hc
    have k1 : KX x m σ (sI (sI σ 7 x (nI 0)) 7 x (nI 7)) := (KX.st7 _).trans (KX.st7 _)
    obtain ⟨y, t2, t3⟩ := tk _ k1 rfl
    rcases (hN.trans t2.symm).mv (mOt m σ) hv with ⟨m1, m2⟩ | ⟨r1, r2, m1, m2, m3⟩
    · rw [m2] at t3
      exact act_no h k1 (by rw [r_II, if_pos ⟨rfl, rfl⟩]) rfl rfl rfl hc t3
    · rw [hr] at m1; cases m1
  | some r =>
    rw [hr] at hc
    have k1 : KX x m σ (CN (x + 17) (x + 18) (sI σ 7 x (nI 0)) r) := (KX.st7 _).trans (KX.cn r)
    obtain ⟨y, t2, t3⟩ := tk _ k1 (by rw [CN_ne _ (by omega) (by omega)]; rfl)
    rcases (hN.trans t2.symm).mv (mOt m σ) hv with ⟨m1, m2⟩ | ⟨r1, r2, m1, m2, m3⟩
    · rw [hr] at m1; cases m1
    · rw [hr] at m1
      cases m1
      rw [m2] at t3
      exact act_yes h k1 (by
        show zI (sI σ 7 x (nI 0)) 7 x = nI 0
        rw [r_II, if_pos ⟨rfl, rfl⟩]) (CN_1 r) (CN_2 (by omega) r) ((hS.agr t2.symm).mv hT hv m2) m3 hc t3
end
