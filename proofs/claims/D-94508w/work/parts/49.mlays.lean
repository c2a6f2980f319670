set_option maxRecDepth 100000
section
variable {m : Nat} {σ : ZT}
/-- while the moves are laid: what has changed, the list, its length -/
def LyP (m : Nat) (σ : ZT) (B : Nat) (τ : ZT) (L : List Mv) : Prop := FR m 933 933 11 14 σ τ ∧ ML m τ L ∧ L.length ≤ B
theorem LyP.add (h : MInv m σ) {B : Nat} {τ : ZT} {L : List Mv} (hP : LyP m σ B τ L) (hB : B < 100) (v : Mv) : ∃ τ', f_X9_adds m (nI v.1) (nI v.2.1) (oI v.2.2.1) (oI v.2.2.2) τ = some τ' ∧ LyP m σ (B + 1) τ' (L ++ [v]) := by
  obtain ⟨h1, h2, h3⟩ := hP
  obtain ⟨τ', g1, g2, g3⟩ := q_adds (h1.inv h) h2 (by omega) v
  exact ⟨τ', g1, h1.trans g2, g3, by rw [List.length_append]; simpa using h3⟩
theorem LyP.t (h : MInv m σ) {B : Nat} {τ : ZT} {L : List Mv} (hP : LyP m σ B τ L) : MInv m τ ∧ zAI τ (m + 1) = zAI σ (m + 1) := ⟨hP.1.inv h, hP.1.ai (by omega)⟩
theorem q_lay1 (h : MInv m σ) (hT : TW (zAI σ (m + 1))) {p B : Nat} (hB : B + fn (zAI σ (m + 1)) 1 < 100) (c1 : Int32) {τ : ZT} {L : List Mv} (hP : LyP m σ B τ L) : ∃ τ', loopC (fun s : (Int32 × ZT) => f_X9_laysMoves_L21 m c1 (nI p) s.1 s.2) (nI 0, τ) = some τ' ∧ LyP m σ (B + fn (zAI σ (m + 1)) 1) τ' (L ++ gGo (fn (zAI σ (m + 1)) 1) p) := by
  have h1 := hT.1 1 (by decide)
  refine loop_list (P := fun k τ L => LyP m σ (B + k) τ L) (g := fun b => [(0, p, none, some b)]) (n := fn (zAI σ (m + 1)) 1) (fun k hk τ L hP => ?_) (fun τ L hP => ?_) _ 0 (by omega) τ L hP
  · obtain ⟨i1, i2⟩ := hP.t h
    obtain ⟨τ', g1, g2⟩ := hP.add h (by omega) (0, p, none, some k)
    refine ⟨τ', ?_, g2⟩
    have g1' : f_X9_adds m (nI 0) (nI p) mI (nI k) τ = some τ' := g1
    unfold f_X9_laysMoves_L21
    simp (disch := first | exact i1 | omega) [mR900, ml_at, mvc, lI, mI_eq, nI_add, pk_mul, nlt, nle, neq, nI_mI, mI_nI, nltm, mltn, nsub, zremN, zdivN, i2, h1, g1', hk]
  · obtain ⟨i1, i2⟩ := hP.t h
    unfold f_X9_laysMoves_L21
    simp (disch := first | exact i1 | omega) [mR900, ml_at, mvc, lI, mI_eq, nI_add, pk_mul, nlt, nle, neq, nI_mI, mI_nI, nltm, mltn, nsub, zremN, zdivN, i2, h1]
theorem q_lay2 (h : MInv m σ) (hT : TW (zAI σ (m + 1))) {p q B : Nat} (hB : B + fn (zAI σ (m + 1)) 1 < 100) (c1 : Int32) {τ : ZT} {L : List Mv} (hP : LyP m σ B τ L) : ∃ τ', loopC (fun s : (Int32 × ZT) => f_X9_laysMoves_L70 m c1 (nI p) (nI q) s.1 s.2) (nI 0, τ) = some τ' ∧ LyP m σ (B + fn (zAI σ (m + 1)) 1) τ' (L ++ gBo1 (fn (zAI σ (m + 1)) 1) p q) := by
  have h1 := hT.1 1 (by decide)
  refine loop_list (P := fun k τ L => LyP m σ (B + k) τ L) (g := fun b => [(1, p, some q, some b)]) (n := fn (zAI σ (m + 1)) 1) (fun k hk τ L hP => ?_) (fun τ L hP => ?_) _ 0 (by omega) τ L hP
  · obtain ⟨i1, i2⟩ := hP.t h
    obtain ⟨τ', g1, g2⟩ := hP.add h (by omega) (1, p, some q, some k)
    refine ⟨τ', ?_, g2⟩
    have g1' : f_X9_adds m (nI 1) (nI p) (nI q) (nI k) τ = some τ' := g1
    unfold f_X9_laysMoves_L70
    simp (disch := first | exact i1 | omega) [mR900, ml_at, mvc, lI, mI_eq, nI_add, pk_mul, nlt, nle, neq, nI_mI, mI_nI, nltm, mltn, nsub, zremN, zdivN, i2, h1, g1', hk]
  · obtain ⟨i1, i2⟩ := hP.t h
    unfold f_X9_laysMoves_L70
    simp (disch := first | exact i1 | omega) [mR900, ml_at, mvc, lI, mI_eq, nI_add, pk_mul, nlt, nle, neq, nI_mI, mI_nI, nltm, mltn, nsub, zremN, zdivN, i2, h1]
theorem q_lay3 (h : MInv m σ) (hT : TW (zAI σ (m + 1))) {p B : Nat} (hB : B + fn (zAI σ (m + 1)) 3 < 100) (c1 : Int32) {τ : ZT} {L : List Mv} (hP : LyP m σ B τ L) : ∃ τ', loopC (fun s : (Int32 × ZT) => f_X9_laysMoves_L117 m c1 (nI p) s.1 s.2) (nI 0, τ) = some τ' ∧ LyP m σ (B + fn (zAI σ (m + 1)) 3) τ' (L ++ gLi (fn (zAI σ (m + 1)) 3) p) := by
  have h1 := hT.1 3 (by decide)
  refine loop_list (P := fun k τ L => LyP m σ (B + k) τ L) (g := fun b => [(2, p, none, some b)]) (n := fn (zAI σ (m + 1)) 3) (fun k hk τ L hP => ?_) (fun τ L hP => ?_) _ 0 (by omega) τ L hP
  · obtain ⟨i1, i2⟩ := hP.t h
    obtain ⟨τ', g1, g2⟩ := hP.add h (by omega) (2, p, none, some k)
    refine ⟨τ', ?_, g2⟩
    have g1' : f_X9_adds m (nI 2) (nI p) mI (nI k) τ = some τ' := g1
    unfold f_X9_laysMoves_L117
    simp (disch := first | exact i1 | omega) [mR900, ml_at, mvc, lI, mI_eq, nI_add, pk_mul, nlt, nle, neq, nI_mI, mI_nI, nltm, mltn, nsub, zremN, zdivN, i2, h1, g1', hk]
  · obtain ⟨i1, i2⟩ := hP.t h
    unfold f_X9_laysMoves_L117
    simp (disch := first | exact i1 | omega) [mR900, ml_at, mvc, lI, mI_eq, nI_add, pk_mul, nlt, nle, neq, nI_mI, mI_nI, nltm, mltn, nsub, zremN, zdivN, i2, h1]
theorem q_laysMoves (h : MInv m σ) (hT : TW (zAI σ (m + 1))) : ∃ τ, f_X9_laysMoves m σ = some τ ∧ FR m 933 933 11 14 σ τ ∧ ML m τ (mvs (zAI σ (m + 1))) ∧ (mvs (zAI σ (m + 1))).length ≤ 92 := by
  have h2 := hT.1 2 (by decide)
  have n1 := hT.2.2.1
  have n2 := hT.2.2.2.1
  have n3 := hT.2.2.2.2.1
  have hP0 : LyP m σ 0 (sI σ 933 m (nI 0)) [] := ⟨FR.sI (by decide) (by decide) _, ⟨by rw [r_II, if_pos ⟨rfl, rfl⟩]; rfl, fun k v hk => by simp at hk⟩, Nat.le_refl _⟩
  -- one goes
  obtain ⟨τ1, a1, P1⟩ := loop_list (body := fun s : (Int32 × ZT) => f_X9_laysMoves_L14 m (nI (fn (zAI σ (m + 1)) 2)) s.1 s.2) (P := fun k τ L => LyP m σ (8 * k) τ L) (g := gGo (fn (zAI σ (m + 1)) 1)) (n := fn (zAI σ (m + 1)) 2) (fun k hk τ L hP => by
    obtain ⟨τ', g1, g2⟩ := q_lay1 (p := k) h hT (by omega) (nI (fn (zAI σ (m + 1)) 2)) hP
    refine ⟨τ', ?_, g2.1, g2.2.1, by have := g2.2.2; omega⟩
    unfold f_X9_laysMoves_L14
    simp (disch := omega) [lI, mI_eq, nI_add, pk_mul, nlt, nle, neq, nI_mI, mI_nI, nltm, mltn, nsub, zremN, zdivN, hk, g1]) (fun τ L hP => by
    unfold f_X9_laysMoves_L14
    simp (disch := omega) [lI, mI_eq, nI_add, pk_mul, nlt, nle, neq, nI_mI, mI_nI, nltm, mltn, nsub, zremN, zdivN]) (fn (zAI σ (m + 1)) 2) 0 (by omega) _ _ hP0
  -- two go
  obtain ⟨τ2, a2, P2⟩ := loop_list (body := fun s : (Int32 × ZT) => f_X9_laysMoves_L53 m (nI (fn (zAI σ (m + 1)) 2)) s.1 s.2) (P := fun k τ L => LyP m σ (32 + (8 * ((fn (zAI σ (m + 1)) 2 * k - (k * (k + 1)) / 2)))) τ L) (g := gBo (fn (zAI σ (m + 1)) 1) (fn (zAI σ (m + 1)) 2)) (n := fn (zAI σ (m + 1)) 2) (fun k hk τ L hP => by
    have key : 32 + 8 * (fn (zAI σ (m + 1)) 2 * k - k * (k + 1) / 2) + 8 * (fn (zAI σ (m + 1)) 2 - (k + 1)) ≤ 32 + 8 * (fn (zAI σ (m + 1)) 2 * (k + 1) - (k + 1) * (k + 1 + 1) / 2) ∧ 32 + 8 * (fn (zAI σ (m + 1)) 2 * k - k * (k + 1) / 2) + 8 * (fn (zAI σ (m + 1)) 2 - (k + 1)) ≤ 80 := by
      have hk4 : k = 0 ∨ k = 1 ∨ k = 2 ∨ k = 3 := by omega
      rcases le4 n2 with e | e | e | e | e <;> rcases hk4 with rfl | rfl | rfl | rfl <;> rw [e] at hk ⊢ <;> first | omega | decide
    obtain ⟨τ', g1, g2⟩ := loop_list (body := fun s : (Int32 × ZT) => f_X9_laysMoves_L62 m (nI (fn (zAI σ (m + 1)) 2)) (nI k) s.1 s.2) (P := fun q τ L => LyP m σ (32 + 8 * (fn (zAI σ (m + 1)) 2 * k - k * (k + 1) / 2) + 8 * (q - (k + 1))) τ L ∧ k + 1 ≤ q) (g := fun q => gBo1 (fn (zAI σ (m + 1)) 1) k q) (n := fn (zAI σ (m + 1)) 2) (fun q hq τ L hP => by
      obtain ⟨hP, hkq⟩ := hP
      obtain ⟨τ', g1, g2⟩ := q_lay2 (p := k) (q := q) h hT (by omega) (nI (fn (zAI σ (m + 1)) 2)) hP
      refine ⟨τ', ?_, ⟨g2.1, g2.2.1, by have := g2.2.2; omega⟩, by omega⟩
      unfold f_X9_laysMoves_L62
      simp (disch := omega) [lI, mI_eq, nI_add, pk_mul, nlt, nle, neq, nI_mI, mI_nI, nltm, mltn, nsub, zremN, zdivN, hq, g1]) (fun τ L hP => by
      unfold f_X9_laysMoves_L62
      simp (disch := omega) [lI, mI_eq, nI_add, pk_mul, nlt, nle, neq, nI_mI, mI_nI, nltm, mltn, nsub, zremN, zdivN]) (fn (zAI σ (m + 1)) 2 - (k + 1)) (k + 1) (by omega) τ L ⟨by rw [Nat.sub_self]; exact hP, Nat.le_refl _⟩
    refine ⟨τ', ?_, g2.1.1, g2.1.2.1, Nat.le_trans g2.1.2.2 key.1⟩
    unfold f_X9_laysMoves_L53
    simp (disch := omega) [lI, mI_eq, nI_add, pk_mul, nlt, nle, neq, nI_mI, mI_nI, nltm, mltn, nsub, zremN, zdivN, hk, g1]) (fun τ L hP => by
    unfold f_X9_laysMoves_L53
    simp (disch := omega) [lI, mI_eq, nI_add, pk_mul, nlt, nle, neq, nI_mI, mI_nI, nltm, mltn, nsub, zremN, zdivN]) (fn (zAI σ (m + 1)) 2) 0 (by omega) τ1 _ ⟨P1.1, P1.2.1, by have := P1.2.2; omega⟩
  have P2l : (List.flatMap (gGo (fn (zAI σ (m + 1)) 1)) (List.range' 0 (fn (zAI σ (m + 1)) 2)) ++ List.flatMap (gBo (fn (zAI σ (m + 1)) 1) (fn (zAI σ (m + 1)) 2)) (List.range' 0 (fn (zAI σ (m + 1)) 2))).length ≤ 80 := by
    refine Nat.le_trans P2.2.2 ?_
    rcases le4 n2 with e | e | e | e | e <;> rw [e] <;> decide
  -- a load is lifted
  obtain ⟨τ3, a3, P3⟩ := loop_list (body := fun s : (Int32 × ZT) => f_X9_laysMoves_L110 m (nI (fn (zAI σ (m + 1)) 2)) s.1 s.2) (P := fun k τ L => LyP m σ (80 + 2 * k) τ L) (g := gLi (fn (zAI σ (m + 1)) 3)) (n := fn (zAI σ (m + 1)) 2) (fun k hk τ L hP => by
    obtain ⟨τ', g1, g2⟩ := q_lay3 (p := k) h hT (by omega) (nI (fn (zAI σ (m + 1)) 2)) hP
    refine ⟨τ', ?_, g2.1, g2.2.1, by have := g2.2.2; omega⟩
    unfold f_X9_laysMoves_L110
    simp (disch := omega) [lI, mI_eq, nI_add, pk_mul, nlt, nle, neq, nI_mI, mI_nI, nltm, mltn, nsub, zremN, zdivN, hk, g1]) (fun τ L hP => by
    unfold f_X9_laysMoves_L110
    simp (disch := omega) [lI, mI_eq, nI_add, pk_mul, nlt, nle, neq, nI_mI, mI_nI, nltm, mltn, nsub, zremN, zdivN]) (fn (zAI σ (m + 1)) 2) 0 (by omega) τ2 _ ⟨P2.1, P2.2.1, P2l⟩
  -- it is dropped
  obtain ⟨τ4, a4, P4⟩ := loop_list (body := fun s : (Int32 × ZT) => f_X9_laysMoves_L149 m (nI (fn (zAI σ (m + 1)) 2)) s.1 s.2) (P := fun k τ L => LyP m σ (88 + k) τ L) (g := gDr) (n := fn (zAI σ (m + 1)) 2) (fun k hk τ L hP => by
    obtain ⟨τ', g1, g2⟩ := hP.add h (by omega) (3, k, none, none)
    obtain ⟨i1, i2⟩ := hP.t h
    have g1' : f_X9_adds m (nI 3) (nI k) mI mI τ = some τ' := g1
    refine ⟨τ', ?_, g2⟩
    unfold f_X9_laysMoves_L149
    simp (disch := first | exact i1 | omega) [mvc, lI, mI_eq, nI_add, pk_mul, nlt, nle, neq, nI_mI, mI_nI, nltm, mltn, nsub, zremN, zdivN, hk, g1']) (fun τ L hP => by
    unfold f_X9_laysMoves_L149
    simp (disch := omega) [lI, mI_eq, nI_add, pk_mul, nlt, nle, neq, nI_mI, mI_nI, nltm, mltn, nsub, zremN, zdivN]) (fn (zAI σ (m + 1)) 2) 0 (by omega) τ3 _ ⟨P3.1, P3.2.1, by have := P3.2.2; omega⟩
  refine ⟨τ4, ?_, P4.1, P4.2.1, Nat.le_trans (show (mvs (zAI σ (m + 1))).length ≤ _ from P4.2.2) (by omega)⟩
  unfold f_X9_laysMoves
  simp (disch := first | exact h | omega | (simp only [Mi_sI, Mi_sL, Mi_sAI, Mi_sAL, Mi_sAIr, Mi_sALr]; exact h)) only [mR900, mR901, mR905, mR906, mR907, mR908, mR909, mR921, mR924, mR925, mR929, mR930, mR931, mR932, mR934, mR935, mR936, mR940, mR949, mR950, mR951, ml_at, ml_names, ml_sort, ml_trayMany, ml_trays, ml_tape, ml_text, ml_opened, ml_now, ml_lies, ml_moveKind, ml_moveOne, ml_moveTwo, ml_moveThird, ml_far, ml_come, ml_good, ml_way, ml_rounds, ml_told0, ml_endAt, ms_at, ms_names, ms_sort, ms_trayMany, ms_trays, ms_tape, ms_text, ms_opened, ms_now, ms_lies, ms_moveKind, ms_moveOne, ms_moveTwo, ms_moveThird, ms_far, ms_come, ms_good, ms_way, ms_rounds, ms_told0, ms_endAt, mgI, mgL, mpI, mpL, mpZ, mvc, bnd2_s, bind_s, rz, lI, mI_eq, nI_add, pk_mul, nlt, nle, neq, nI_mI, mI_nI, nltm, mltn, nsub, zremN, zdivN, zK_sI, zL_sI, zR_sI, zAI_sI, zAL_sI, zAR_sI, zN_sI, zsz_sI, zbc_sI, zbs_sI, zK_sL, zI_sL, zR_sL, zAI_sL, zAL_sL, zAR_sL, zN_sL, zsz_sL, zbc_sL, zbs_sL, zK_sR, zI_sR, zL_sR, zAI_sR, zAL_sR, zAR_sR, zN_sR, zsz_sR, zbc_sR, zbs_sR, zK_sAI, zI_sAI, zL_sAI, zR_sAI, zAL_sAI, zAR_sAI, zN_sAI, zsz_sAI, zbc_sAI, zbs_sAI, zK_sAL, zI_sAL, zL_sAL, zR_sAL, zAI_sAL, zAR_sAL, zN_sAL, zsz_sAL, zbc_sAL, zbs_sAL, zK_sAR, zI_sAR, zL_sAR, zR_sAR, zAI_sAR, zAL_sAR, zN_sAR, zsz_sAR, zbc_sAR, zbs_sAR, zK_sAIr, zI_sAIr, zL_sAIr, zR_sAIr, zAL_sAIr, zAR_sAIr, zN_sAIr, zsz_sAIr, zbc_sAIr, zbs_sAIr, zK_sALr, zI_sALr, zL_sALr, zR_sALr, zAI_sALr, zAR_sALr, zN_sALr, zsz_sALr, zbc_sALr, zbs_sALr, zK_sARr, zI_sARr, zL_sARr, zR_sARr, zAI_sARr, zAL_sARr, zN_sARr, zsz_sARr, zbc_sARr, zbs_sARr, r_II, r_LL, r_RR, r_AI, r_AL, r_AIr, r_ALr, h2, a1, a2, a3, a4]
end
