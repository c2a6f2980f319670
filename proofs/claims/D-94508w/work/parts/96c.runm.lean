set_option maxRecDepth 100000
/-- the model's run: what may change -/
def FMR (m : Nat) (σ τ : ZT) : Prop := zK τ = zK σ ∧ zL τ = zL σ ∧ zR τ = zR σ ∧ zAL τ = zAL σ ∧ zAR τ = zAR σ ∧ zN τ = zN σ ∧ (zsz τ = zsz σ ∧ zbc τ = zbc σ ∧ zbs τ = zbs σ) ∧ (∀ f a, ¬ (a = m ∧ 941 ≤ f ∧ f ≤ 948) → zI τ f a = zI σ f a) ∧ ∀ a, a ≠ m + 9 → a ≠ m + 10 → zAI τ a = zAI σ a
/-- the model holds a run's state -/
def MRn (m : Nat) (T : Nat → Int32) (bl : Bool) (σ τ : ZT) (s : Rs) : Prop := FMR m σ τ ∧ (zI τ 941 m = s.2.2.2.2.2.2.2 ∧ zI τ 942 m = nI s.2.1 ∧ zI τ 943 m = nI s.2.2.1 ∧ zI τ 944 m = s.2.2.2.1 ∧ zI τ 945 m = s.2.2.2.2.1 ∧ zI τ 946 m = s.2.2.2.2.2.1 ∧ zI τ 947 m = s.2.2.2.2.2.2.1) ∧ zI τ 948 m = bI bl ∧ Agr T (zAI τ (m + 9), zAI τ (m + 10)) s.1
section
variable {m : Nat} {σ σ' σ'' τ : ZT} {T : Nat → Int32} {bl : Bool} {w : Ot} {st : St} {n dn : Nat} {ms sl tl mi d : Int32}
theorem FMR.refl (σ : ZT) : FMR m σ σ := ⟨rfl, rfl, rfl, rfl, rfl, rfl, ⟨rfl, rfl, rfl⟩, fun _ _ _ => rfl, fun _ _ _ => rfl⟩
theorem FMR.trans (h : FMR m σ σ') (g : FMR m σ' σ'') : FMR m σ σ'' := by
  obtain ⟨h1, h2, h3, h4, h5, h6, ⟨h7, h8, h9⟩, h10, h11⟩ := h
  obtain ⟨g1, g2, g3, g4, g5, g6, ⟨g7, g8, g9⟩, g10, g11⟩ := g
  exact ⟨g1.trans h1, g2.trans h2, g3.trans h3, g4.trans h4, g5.trans h5, g6.trans h6, ⟨g7.trans h7, g8.trans h8, g9.trans h9⟩, fun f a q => (g10 f a q).trans (h10 f a q), fun a q1 q2 => (g11 a q1 q2).trans (h11 a q1 q2)⟩
theorem FMR.sI {f : Nat} (hf : 941 ≤ f ∧ f ≤ 948) (v : Int32) : FMR m σ (sI σ f m v) := ⟨rfl, rfl, rfl, rfl, rfl, rfl, ⟨rfl, rfl, rfl⟩, fun g a q => by rw [r_II, if_neg (by omega)], fun _ _ _ => rfl⟩
theorem FMR.air {b : Nat} (hb : b = m + 9 ∨ b = m + 10) (r : Nat → Int32) : FMR m σ (sAIr σ b r) := ⟨rfl, rfl, rfl, rfl, rfl, rfl, ⟨rfl, rfl, rfl⟩, fun _ _ _ => rfl, fun a q1 q2 => zAIr_ne _ (by omega)⟩
theorem FMR.nl (r : St) : FMR m σ (NL m σ r) := (FMR.air (by omega) _).trans (FMR.air (by omega) _)
theorem FMR.inv (h : FMR m σ τ) (g : MInv m σ) : MInv m τ := by
  obtain ⟨h1, h2, h3, h4, h5, h6, h7, h8, h9⟩ := h
  unfold MInv
  rw [h1, h3, h6]
  exact g
theorem MRn.s941 (h : MRn m T bl σ τ (st, n, dn, ms, sl, tl, mi, d)) (v : Int32) : MRn m T bl σ (sI τ 941 m v) (st, n, dn, ms, sl, tl, mi, v) := by
  obtain ⟨h1, ⟨k1, k2, k3, k4, k5, k6, k7⟩, h3, h4⟩ := h
  refine ⟨h1.trans (FMR.sI (by omega) _), ⟨?_, ?_, ?_, ?_, ?_, ?_, ?_⟩, ?_, h4⟩
  · rw [r_II, if_pos ⟨rfl, rfl⟩]
  all_goals rw [r_II, if_neg (by omega)]
  all_goals assumption
theorem MRn.s942 (h : MRn m T bl σ τ (st, n, dn, ms, sl, tl, mi, d)) (v : Nat) : MRn m T bl σ (sI τ 942 m (nI v)) (st, v, dn, ms, sl, tl, mi, d) := by
  obtain ⟨h1, ⟨k1, k2, k3, k4, k5, k6, k7⟩, h3, h4⟩ := h
  refine ⟨h1.trans (FMR.sI (by omega) _), ⟨?_, ?_, ?_, ?_, ?_, ?_, ?_⟩, ?_, h4⟩
  rotate_left
  · rw [r_II, if_pos ⟨rfl, rfl⟩]
  all_goals rw [r_II, if_neg (by omega)]
  all_goals assumption
theorem MRn.s943 (h : MRn m T bl σ τ (st, n, dn, ms, sl, tl, mi, d)) (v : Nat) : MRn m T bl σ (sI τ 943 m (nI v)) (st, n, v, ms, sl, tl, mi, d) := by
  obtain ⟨h1, ⟨k1, k2, k3, k4, k5, k6, k7⟩, h3, h4⟩ := h
  refine ⟨h1.trans (FMR.sI (by omega) _), ⟨?_, ?_, ?_, ?_, ?_, ?_, ?_⟩, ?_, h4⟩
  rotate_left 2
  · rw [r_II, if_pos ⟨rfl, rfl⟩]
  all_goals rw [r_II, if_neg (by omega)]
  all_goals assumption
theorem MRn.s944 (h : MRn m T bl σ τ (st, n, dn, ms, sl, tl, mi, d)) (v : Int32) : MRn m T bl σ (sI τ 944 m v) (st, n, dn, v, sl, tl, mi, d) := by
  obtain ⟨h1, ⟨k1, k2, k3, k4, k5, k6, k7⟩, h3, h4⟩ := h
  refine ⟨h1.trans (FMR.sI (by omega) _), ⟨?_, ?_, ?_, ?_, ?_, ?_, ?_⟩, ?_, h4⟩
  rotate_left 3
  · rw [r_II, if_pos ⟨rfl, rfl⟩]
  all_goals rw [r_II, if_neg (by omega)]
  all_goals assumption
theorem MRn.s945 (h : MRn m T bl σ τ (st, n, dn, ms, sl, tl, mi, d)) (v : Int32) : MRn m T bl σ (sI τ 945 m v) (st, n, dn, ms, v, tl, mi, d) := by
  obtain ⟨h1, ⟨k1, k2, k3, k4, k5, k6, k7⟩, h3, h4⟩ := h
  refine ⟨h1.trans (FMR.sI (by omega) _), ⟨?_, ?_, ?_, ?_, ?_, ?_, ?_⟩, ?_, h4⟩
  rotate_left 4
  · rw [r_II, if_pos ⟨rfl, rfl⟩]
  all_goals rw [r_II, if_neg (by omega)]
  all_goals assumption
theorem MRn.s946 (h : MRn m T bl σ τ (st, n, dn, ms, sl, tl, mi, d)) (v : Int32) : MRn m T bl σ (sI τ 946 m v) (st, n, dn, ms, sl, v, mi, d) := by
  obtain ⟨h1, ⟨k1, k2, k3, k4, k5, k6, k7⟩, h3, h4⟩ := h
  refine ⟨h1.trans (FMR.sI (by omega) _), ⟨?_, ?_, ?_, ?_, ?_, ?_, ?_⟩, ?_, h4⟩
  rotate_left 5
  · rw [r_II, if_pos ⟨rfl, rfl⟩]
  all_goals rw [r_II, if_neg (by omega)]
  all_goals assumption
theorem MRn.s947 (h : MRn m T bl σ τ (st, n, dn, ms, sl, tl, mi, d)) (v : Int32) : MRn m T bl σ (sI τ 947 m v) (st, n, dn, ms, sl, tl, v, d) := by
  obtain ⟨h1, ⟨k1, k2, k3, k4, k5, k6, k7⟩, h3, h4⟩ := h
  refine ⟨h1.trans (FMR.sI (by omega) _), ⟨?_, ?_, ?_, ?_, ?_, ?_, ?_⟩, ?_, h4⟩
  rotate_left 6
  · rw [r_II, if_pos ⟨rfl, rfl⟩]
  all_goals rw [r_II, if_neg (by omega)]
  all_goals assumption
theorem MRn.nl (h : MRn m T bl σ τ (st, n, dn, ms, sl, tl, mi, d)) {r st' : St} (ha : Agr T r st') : MRn m T bl σ (NL m τ r) (st', n, dn, ms, sl, tl, mi, d) := by
  obtain ⟨h1, k, h3, h4⟩ := h
  refine ⟨h1.trans (FMR.nl r), k, h3, ?_⟩
  rw [NL_at, NL_lies]
  exact ha
theorem FMR.rn {rd : Nat → Int32} (h : FMR m (sAIr σ (m + 19) rd) τ) (r : Nat → Int32) : FMR m (sAIr σ (m + 19) r) (sAIr τ (m + 19) r) := by
  obtain ⟨h1, h2, h3, h4, h5, h6, h7, h8, h9⟩ := h
  refine ⟨h1, h2, h3, h4, h5, h6, h7, h8, fun a q1 q2 => ?_⟩
  by_cases e : a = m + 19
  · rw [e, zAIr_at, zAIr_at]
  · have := h9 a q1 q2
    rw [zAIr_ne _ e] at this
    rw [zAIr_ne _ e, zAIr_ne _ e]
    exact this
theorem MRn.rn {rd : Nat → Int32} {s : Rs} (h : MRn m T bl (sAIr σ (m + 19) rd) τ s) (i : Nat) (v : Int32) : MRn m T bl (sAIr σ (m + 19) (up rd i v)) (sAI τ (m + 19) i v) s := by
  obtain ⟨h1, k, h3, h4⟩ := h
  have e19 : zAI τ (m + 19) = rd := by
    rw [h1.2.2.2.2.2.2.2.2 _ (by omega) (by omega), zAIr_at]
  rw [sAI_r, e19]
  refine ⟨h1.rn _, k, h3, ?_⟩
  rw [zAIr_ne _ (by omega), zAIr_ne _ (by omega)]
  exact h4
theorem MRn.rd {rd : Nat → Int32} {s : Rs} (h : MRn m T bl (sAIr σ (m + 19) rd) τ s) : zAI τ (m + 19) = rd := by
  rw [h.1.2.2.2.2.2.2.2.2 _ (by omega) (by omega), zAIr_at]
/-- what a run stands on, the model's side -/
def RM (m : Nat) (σ : ZT) (T : Nat → Int32) (w : Ot) : Prop := MInv m σ ∧ zAI σ (m + 1) = T ∧ TW T ∧ mOt m σ = w ∧ w.1 = mI
theorem RM.rn (h : RM m σ T w) (rd : Nat → Int32) : RM m (sAIr σ (m + 19) rd) T w := by
  obtain ⟨h1, h2, h3, h4, h5⟩ := h
  exact ⟨h1, by rw [zAIr_ne _ (by omega)]; exact h2, h3, h4, h5⟩
theorem MRn.base (h : MRn m T bl σ τ (st, n, dn, ms, sl, tl, mi, d)) (hb : RM m σ T w) : MInv m τ ∧ zAI τ (m + 1) = T ∧ (zI τ 926 m = w.1 ∧ zI τ 928 m = w.2.1 ∧ zI τ 927 m = w.2.2) := by
  obtain ⟨h1, h2, h3, h4, h5⟩ := hb
  have f := h.1
  refine ⟨f.inv h1, by rw [f.2.2.2.2.2.2.2.2 _ (by omega) (by omega)]; exact h2, ?_⟩
  rw [f.2.2.2.2.2.2.2.1 _ _ (by omega), f.2.2.2.2.2.2.2.1 _ _ (by omega), f.2.2.2.2.2.2.2.1 _ _ (by omega), ← h4]
  exact ⟨rfl, rfl, rfl⟩
theorem dr_z (d : Int32) : zirem (d * nI 2741 + nI 10007) (nI 65536) = some (dr d) := if_neg nz65536
theorem lot_z (d : Int32) : (zidiv (dr d) (nI 8)).bind (fun v => zirem v (nI 16)) = some (lot d) := by
  have z2 : zidiv (dr d) (nI 8) = some (dr d / nI 8) := if_neg nz8
  have z3 : zirem (dr d / nI 8) (nI 16) = some (lot d) := if_neg nz16
  rw [z2, bind_s, z3]
theorem q_ofBr (i1 : MInv m τ) (eT : zAI τ (m + 1) = T) (hT : TW T) {br k : Nat} (hbr : br < fn T 1) (hk : k < 9) : f_X9_ofBridge m (nI br) (nI k) τ = some (T (14 + 9 * br + k), τ) := by
  have n8 := hT.2.2.1
  unfold f_X9_ofBridge
  simp (disch := first | exact i1 | omega) only [mR900, bind_s, lI, nI_add, pk_mul, ml_at, eT]
theorem slp_y {sw : Int32} (h : nI 0 < sw) (d : Int32) : slp true sw false d = (decide (lot d < sw), dr d) := by
  unfold slp
  rw [if_pos ⟨rfl, h⟩, if_neg (show ¬ false = true by decide)]
theorem slp_n {bl : Bool} {sw : Int32} (h : ¬ (bl = true ∧ nI 0 < sw)) (two : Bool) (d : Int32) : slp bl sw two d = (false, d) := by
  unfold slp
  rw [if_neg h]
theorem q_slipsY (i1 : MInv m τ) (eT : zAI τ (m + 1) = T) (hT : TW T) {br : Nat} (hbr : br < fn T 1) (h8 : zI τ 948 m = nI 1) (hb2 : nI 0 < T (14 + 9 * br + 8)) : f_X9_slips m (nI br) τ = some (bI (decide (lot (zI τ 941 m) < T (14 + 9 * br + 8))), sI τ 941 m (dr (zI τ 941 m))) := by
  have hne : ¬ T (14 + 9 * br + 8) = (0 : Int32) := fun e => by rw [e] at hb2; exact absurd hb2 (by decide)
  have hob1 : f_X9_ofBridge m (nI br) (8 : Int32) τ = some (T (14 + 9 * br + 8), τ) := q_ofBr i1 eT hT hbr (k := 8) (by decide)
  have e : zirem (zI τ 941 m * (2741 : Int32) + (10007 : Int32)) (65536 : Int32) = some (dr (zI τ 941 m)) := dr_z _
  unfold f_X9_slips
  rw [mgI i1, bind_s, h8, if_neg (show ¬ nI 1 = (0 : Int32) by decide), mvc i1, hob1, bnd2_s, if_neg hne, mgI i1, bind_s, e, bind_s, mpI i1, bind_s]
  have i2 : MInv m (sI τ 941 m (dr (zI τ 941 m))) := by rw [Mi_sI]; exact i1
  have eT2 : zAI (sI τ 941 m (dr (zI τ 941 m))) (m + 1) = T := by rw [zAI_sI]; exact eT
  have hob2 : f_X9_ofBridge m (nI br) (8 : Int32) (sI τ 941 m (dr (zI τ 941 m))) = some (T (14 + 9 * br + 8), sI τ 941 m (dr (zI τ 941 m))) := q_ofBr i2 eT2 hT hbr (k := 8) (by decide)
  have g1 : gI 9 941 m (sI τ 941 m (dr (zI τ 941 m))) = some (dr (zI τ 941 m)) := by
    rw [mgI i2, r_II, if_pos ⟨rfl, rfl⟩]
  have e2 : zidiv (dr (zI τ 941 m)) (8 : Int32) = some (dr (zI τ 941 m) / nI 8) := if_neg nz8
  have e3 : zirem (dr (zI τ 941 m) / nI 8) (16 : Int32) = some (lot (zI τ 941 m)) := if_neg nz16
  rw [g1, bind_s, e2, bind_s, e3, bind_s, mvc i2, hob2, bnd2_s]
  generalize sI τ 941 m (dr (zI τ 941 m)) = τ2
  generalize lot (zI τ 941 m) = ll
  by_cases hd : ll < T (14 + 9 * br + 8)
  · rw [if_pos hd, decide_eq_true hd]
    rfl
  · rw [if_neg hd, decide_eq_false hd]
    rfl
theorem q_slipsN (i1 : MInv m τ) (eT : zAI τ (m + 1) = T) (hT : TW T) {br : Nat} (hbr : br < fn T 1) (h8 : zI τ 948 m = bI bl) (hbl : ¬ (bl = true ∧ nI 0 < T (14 + 9 * br + 8))) : f_X9_slips m (nI br) τ = some (nI 0, τ) := by
  have e8 := (hT.2.2.2.2.2.1 br hbr).1 8 (by decide)
  have b15 := (hT.2.2.2.2.2.1 br hbr).2.2.2.2.2.2.2.2.2.2.2
  have hob1 := q_ofBr i1 eT hT hbr (k := 8) (by decide)
  unfold f_X9_slips f_X9_slips_J17
  cases bl with
  | false =>
    have h8' : zI τ 948 m = nI 0 := h8
    simp (disch := first | exact i1 | omega) only [mgI, bind_s, h8', lI, if_true]
  | true =>
    have hz : T (14 + 9 * br + 8) = nI 0 := by
      have hn : ¬ nI 0 < T (14 + 9 * br + 8) := fun hh => hbl ⟨rfl, hh⟩
      rw [e8] at hn ⊢
      rw [nlt (by decide) (by omega)] at hn
      have : fn T (14 + 9 * br + 8) = 0 := by omega
      rw [this]
    have h8' : zI τ 948 m = nI 1 := h8
    rw [hz] at hob1
    simp (disch := first | exact i1 | omega) only [mgI, bind_s, h8', lI, n1n0, if_false, mvc, hob1, bnd2_s, if_true]
theorem q_slips (hb : RM m σ T w) (h : MRn m T bl σ τ (st, n, dn, ms, sl, tl, mi, d)) {br : Nat} (hbr : br < fn T 1) : ∃ τ', f_X9_slips m (nI br) τ = some (bI (slp bl (T (14 + 9 * br + 8)) false d).1, τ') ∧ MRn m T bl σ τ' (st, n, dn, ms, sl, tl, mi, (slp bl (T (14 + 9 * br + 8)) false d).2) := by
  obtain ⟨i1, eT, -⟩ := h.base hb
  have hT := hb.2.2.1
  have h8 : zI τ 948 m = bI bl := h.2.2.1
  have h1 : zI τ 941 m = d := h.2.1.1
  by_cases hbl : bl = true ∧ nI 0 < T (14 + 9 * br + 8)
  · obtain ⟨hb1, hb2⟩ := hbl
    subst hb1
    have hq := q_slipsY i1 eT hT hbr h8 hb2
    rw [h1] at hq
    rw [slp_y hb2]
    exact ⟨_, hq, h.s941 (dr d)⟩
  · rw [slp_n hbl]
    exact ⟨τ, q_slipsN i1 eT hT hbr h8 hbl, h⟩
end
