set_option maxRecDepth 100000
/-! ===== a run: its state, what a move does to it ===== -/
/-- where all are; steps; done; missed; slipped; toll; minutes; what is drawn from -/
abbrev Rs : Type := St × Nat × Nat × Int32 × Int32 × Int32 × Int32 × Int32
def srem (a b : Int32) : Int32 := a - a / b * b
def dr (d : Int32) : Int32 := srem (d * nI 2741 + nI 10007) (nI 65536)
def lot (d : Int32) : Int32 := srem (dr d / nI 8) (nI 16)
/-- whether one of so many slips; what is drawn from behind it -/
def slp (bl : Bool) (sw : Int32) (two : Bool) (d : Int32) : Bool × Int32 := if bl = true ∧ nI 0 < sw then (if two = true then (decide (lot d < sw) || decide (lot (dr d) < sw), dr (dr d)) else (decide (lot d < sw), dr d)) else (false, d)
def isTwo (b : Option Nat) : Bool := b.isSome
def rTw (b : Option Nat) : Int32 := if isTwo b = true then nI 2 else nI 1
/-- a move is tried -/
def goS (T : Nat → Int32) (w : Ot) (bl : Bool) (v : Mv) (s : Rs) : Rs × Bool :=
  if v.1 < 2 then match v.2.2.2 with
    | none => (s, false)
    | some br => if 0 < sWhy T s.1.1 s.1.2 w.1 w.2.1 w.2.2 v.2.1 v.2.2.1 br then ((s.1, s.2.1, s.2.2.1, s.2.2.2.1 + nI 1, s.2.2.2.2), false)
      else if (slp bl (T (14 + 9 * br + 8)) (isTwo v.2.2.1) s.2.2.2.2.2.2.2).1 = true then ((s.1, s.2.1, s.2.2.1, s.2.2.2.1, s.2.2.2.2.1 + nI 1, s.2.2.2.2.2.1 + T (14 + 9 * br + 6) * rTw v.2.2.1, s.2.2.2.2.2.2.1 + T (14 + 9 * br + 7), (slp bl (T (14 + 9 * br + 8)) (isTwo v.2.2.1) s.2.2.2.2.2.2.2).2), false)
      else (((sGo T s.1.1 v.2.1 v.2.2.1 br, s.1.2), s.2.1, s.2.2.1 + 1, s.2.2.2.1, s.2.2.2.2.1, s.2.2.2.2.2.1 + T (14 + 9 * br + 6) * rTw v.2.2.1, s.2.2.2.2.2.2.1 + T (14 + 9 * br + 7), (slp bl (T (14 + 9 * br + 8)) (isTwo v.2.2.1) s.2.2.2.2.2.2.2).2), sDone T (sGo T s.1.1 v.2.1 v.2.2.1 br))
  else match sMv T w v s.1 with
    | none => ((s.1, s.2.1, s.2.2.1, s.2.2.2.1 + nI 1, s.2.2.2.2), false)
    | some r => ((r, s.2.1, s.2.2.1 + 1, s.2.2.2), sDone T r.1)
/-- the component's run: what may change -/
def FU (x : Nat) (σ τ : ZT) : Prop := zK τ = zK σ ∧ zL τ = zL σ ∧ zR τ = zR σ ∧ zAL τ = zAL σ ∧ zAR τ = zAR σ ∧ zN τ = zN σ ∧ (zsz τ = zsz σ ∧ zbc τ = zbc σ ∧ zbs τ = zbs σ) ∧ (∀ f a, a ≠ x + 44 → zI τ f a = zI σ f a) ∧ ∀ a, a ≠ x + 52 → a ≠ x + 53 → zAI τ a = zAI σ a
/-- the Running object holds a run's state -/
def CRn (x : Nat) (T : Nat → Int32) (bl : Bool) (σ τ : ZT) (s : Rs) (ov : Bool) : Prop := FU x σ τ ∧ (zI τ 801 (x + 44) = s.2.2.2.2.2.2.2 ∧ zI τ 802 (x + 44) = nI s.2.1 ∧ zI τ 803 (x + 44) = nI s.2.2.1 ∧ zI τ 804 (x + 44) = s.2.2.2.1 ∧ zI τ 805 (x + 44) = s.2.2.2.2.1 ∧ zI τ 806 (x + 44) = s.2.2.2.2.2.1 ∧ zI τ 807 (x + 44) = s.2.2.2.2.2.2.1) ∧ zI τ 808 (x + 44) = bI ov ∧ zI τ 809 (x + 44) = bI bl ∧ Agr T (zAI τ (x + 52), zAI τ (x + 53)) s.1
section
variable {x m t : Nat} {σ σ' σ'' τ : ZT} {T : Nat → Int32} {B P O : Nat → Nat} {bl ov : Bool} {s : Rs} {w : Ot}
theorem FU.refl (σ : ZT) : FU x σ σ := ⟨rfl, rfl, rfl, rfl, rfl, rfl, ⟨rfl, rfl, rfl⟩, fun _ _ _ => rfl, fun _ _ _ => rfl⟩
theorem FU.trans (h : FU x σ σ') (g : FU x σ' σ'') : FU x σ σ'' := by
  obtain ⟨h1, h2, h3, h4, h5, h6, ⟨h7, h8, h9⟩, h10, h11⟩ := h
  obtain ⟨g1, g2, g3, g4, g5, g6, ⟨g7, g8, g9⟩, g10, g11⟩ := g
  exact ⟨g1.trans h1, g2.trans h2, g3.trans h3, g4.trans h4, g5.trans h5, g6.trans h6, ⟨g7.trans h7, g8.trans h8, g9.trans h9⟩, fun f a q => (g10 f a q).trans (h10 f a q), fun a q1 q2 => (g11 a q1 q2).trans (h11 a q1 q2)⟩
theorem FU.sI (f : Nat) (v : Int32) : FU x σ (sI σ f (x + 44) v) := ⟨rfl, rfl, rfl, rfl, rfl, rfl, ⟨rfl, rfl, rfl⟩, fun g a q => by rw [r_II, if_neg (fun hh => q hh.2)], fun _ _ _ => rfl⟩
theorem FU.cn (y : St) : FU x σ (CN (x + 52) (x + 53) σ y) := ⟨rfl, rfl, rfl, rfl, rfl, rfl, ⟨rfl, rfl, rfl⟩, fun _ _ _ => rfl, fun a q1 q2 => CN_ne _ q1 q2⟩
theorem FU.cinv (h : FU x σ τ) (g : CInv x σ) : CInv x τ := by
  obtain ⟨h1, h2, h3, h4, h5, h6, h7, h8, h9⟩ := h
  unfold CInv
  rw [h1, h6, h3, h5]
  exact g
theorem FU.sp (h : FU x σ τ) (hc : CInv x σ) (ht : tOK x t) (g : SP σ (x + 45) (x + 52) (x + 53) t T B P O) : SP τ (x + 45) (x + 52) (x + 53) t T B P O := by
  have h44 := xk_44 hc
  obtain ⟨h1, h2, h3, h4, h5, h6, h7, h8, h9⟩ := h
  unfold tOK at ht
  obtain ⟨g0, k1, k2, k3, k4, ⟨k5, k6, k7, k8⟩, ⟨k9, k10, k11, k12⟩, k13, k14, k15, k16⟩ := g
  have nx : ∀ a, zK σ a = 12 ∨ zK σ a = 13 ∨ zK σ a = 14 → a ≠ x + 44 := fun a ha e => by rw [e, h44] at ha; omega
  refine ⟨?_, ?_⟩
  · rw [h1, h3, h6]; exact g0
  · unfold TR
    rw [h1, h3, h6, h5, h9 (t + 2) (by omega) (by omega)]
    refine ⟨k1, fun k hk => by rw [h8 _ _ (by omega)]; exact k2 k hk, k3, k4, ⟨k5, k6, k7, fun b hb => ?_⟩, ⟨k9, k10, k11, fun b hb => ?_⟩, k13, k14, k15, fun b hb => ?_⟩
    · obtain ⟨y1, y2, y3⟩ := k8 b hb
      exact ⟨y1, y2, fun i hi => by rw [h8 _ _ (nx _ (by omega))]; exact y3 i hi⟩
    · obtain ⟨y1, y2, y3⟩ := k12 b hb
      exact ⟨y1, y2, fun i hi => by rw [h8 _ _ (nx _ (by omega))]; exact y3 i hi⟩
    · obtain ⟨y1, y2, y3⟩ := k16 b hb
      exact ⟨y1, y2, fun i hi => by rw [h8 _ _ (nx _ (by omega))]; exact y3 i hi⟩
end
section
variable {x m t : Nat} {σ σ' σ'' τ : ZT} {T : Nat → Int32} {B P O : Nat → Nat} {bl ov : Bool} {w : Ot} {st : St} {n dn : Nat} {ms sl tl mi d : Int32}
theorem CRn.s801 (h : CRn x T bl σ τ (st, n, dn, ms, sl, tl, mi, d) ov) (v : Int32) : CRn x T bl σ (sI τ 801 (x + 44) v) (st, n, dn, ms, sl, tl, mi, v) ov := by
  obtain ⟨h1, ⟨k1, k2, k3, k4, k5, k6, k7⟩, h2, h3, h4⟩ := h
  refine ⟨h1.trans (FU.sI _ _), ⟨?_, ?_, ?_, ?_, ?_, ?_, ?_⟩, ?_, ?_, h4⟩
  · rw [r_II, if_pos ⟨rfl, rfl⟩]
  all_goals rw [r_II, if_neg (by omega)]
  all_goals assumption
theorem CRn.s802 (h : CRn x T bl σ τ (st, n, dn, ms, sl, tl, mi, d) ov) (v : Nat) : CRn x T bl σ (sI τ 802 (x + 44) (nI v)) (st, v, dn, ms, sl, tl, mi, d) ov := by
  obtain ⟨h1, ⟨k1, k2, k3, k4, k5, k6, k7⟩, h2, h3, h4⟩ := h
  refine ⟨h1.trans (FU.sI _ _), ⟨?_, ?_, ?_, ?_, ?_, ?_, ?_⟩, ?_, ?_, h4⟩
  rotate_left
  · rw [r_II, if_pos ⟨rfl, rfl⟩]
  all_goals rw [r_II, if_neg (by omega)]
  all_goals assumption
theorem CRn.s803 (h : CRn x T bl σ τ (st, n, dn, ms, sl, tl, mi, d) ov) (v : Nat) : CRn x T bl σ (sI τ 803 (x + 44) (nI v)) (st, n, v, ms, sl, tl, mi, d) ov := by
  obtain ⟨h1, ⟨k1, k2, k3, k4, k5, k6, k7⟩, h2, h3, h4⟩ := h
  refine ⟨h1.trans (FU.sI _ _), ⟨?_, ?_, ?_, ?_, ?_, ?_, ?_⟩, ?_, ?_, h4⟩
  rotate_left 2
  · rw [r_II, if_pos ⟨rfl, rfl⟩]
  all_goals rw [r_II, if_neg (by omega)]
  all_goals assumption
theorem CRn.s804 (h : CRn x T bl σ τ (st, n, dn, ms, sl, tl, mi, d) ov) (v : Int32) : CRn x T bl σ (sI τ 804 (x + 44) v) (st, n, dn, v, sl, tl, mi, d) ov := by
  obtain ⟨h1, ⟨k1, k2, k3, k4, k5, k6, k7⟩, h2, h3, h4⟩ := h
  refine ⟨h1.trans (FU.sI _ _), ⟨?_, ?_, ?_, ?_, ?_, ?_, ?_⟩, ?_, ?_, h4⟩
  rotate_left 3
  · rw [r_II, if_pos ⟨rfl, rfl⟩]
  all_goals rw [r_II, if_neg (by omega)]
  all_goals assumption
theorem CRn.s805 (h : CRn x T bl σ τ (st, n, dn, ms, sl, tl, mi, d) ov) (v : Int32) : CRn x T bl σ (sI τ 805 (x + 44) v) (st, n, dn, ms, v, tl, mi, d) ov := by
  obtain ⟨h1, ⟨k1, k2, k3, k4, k5, k6, k7⟩, h2, h3, h4⟩ := h
  refine ⟨h1.trans (FU.sI _ _), ⟨?_, ?_, ?_, ?_, ?_, ?_, ?_⟩, ?_, ?_, h4⟩
  rotate_left 4
  · rw [r_II, if_pos ⟨rfl, rfl⟩]
  all_goals rw [r_II, if_neg (by omega)]
  all_goals assumption
theorem CRn.s806 (h : CRn x T bl σ τ (st, n, dn, ms, sl, tl, mi, d) ov) (v : Int32) : CRn x T bl σ (sI τ 806 (x + 44) v) (st, n, dn, ms, sl, v, mi, d) ov := by
  obtain ⟨h1, ⟨k1, k2, k3, k4, k5, k6, k7⟩, h2, h3, h4⟩ := h
  refine ⟨h1.trans (FU.sI _ _), ⟨?_, ?_, ?_, ?_, ?_, ?_, ?_⟩, ?_, ?_, h4⟩
  rotate_left 5
  · rw [r_II, if_pos ⟨rfl, rfl⟩]
  all_goals rw [r_II, if_neg (by omega)]
  all_goals assumption
theorem CRn.s807 (h : CRn x T bl σ τ (st, n, dn, ms, sl, tl, mi, d) ov) (v : Int32) : CRn x T bl σ (sI τ 807 (x + 44) v) (st, n, dn, ms, sl, tl, v, d) ov := by
  obtain ⟨h1, ⟨k1, k2, k3, k4, k5, k6, k7⟩, h2, h3, h4⟩ := h
  refine ⟨h1.trans (FU.sI _ _), ⟨?_, ?_, ?_, ?_, ?_, ?_, ?_⟩, ?_, ?_, h4⟩
  rotate_left 6
  · rw [r_II, if_pos ⟨rfl, rfl⟩]
  all_goals rw [r_II, if_neg (by omega)]
  all_goals assumption
theorem CRn.s808 (h : CRn x T bl σ τ (st, n, dn, ms, sl, tl, mi, d) ov) (v : Bool) : CRn x T bl σ (sI τ 808 (x + 44) (bI v)) (st, n, dn, ms, sl, tl, mi, d) v := by
  obtain ⟨h1, ⟨k1, k2, k3, k4, k5, k6, k7⟩, h2, h3, h4⟩ := h
  refine ⟨h1.trans (FU.sI _ _), ⟨?_, ?_, ?_, ?_, ?_, ?_, ?_⟩, ?_, ?_, h4⟩
  rotate_left 7
  · rw [r_II, if_pos ⟨rfl, rfl⟩]
  all_goals rw [r_II, if_neg (by omega)]
  all_goals assumption
theorem CRn.cn (h : CRn x T bl σ τ (st, n, dn, ms, sl, tl, mi, d) ov) {r : St} {st' : St} (ha : Agr T r st') : CRn x T bl σ (CN (x + 52) (x + 53) τ r) (st', n, dn, ms, sl, tl, mi, d) ov := by
  obtain ⟨h1, k, h2, h3, h4⟩ := h
  refine ⟨h1.trans (FU.cn r), k, h2, h3, ?_⟩
  rw [CN_1, CN_2 (by omega)]
  exact ha
theorem nz65536 : ¬ nI 65536 = 0 := by decide
theorem nz8 : ¬ nI 8 = 0 := by decide
theorem nz16 : ¬ nI 16 = 0 := by decide
theorem p_draw (h : CInv x τ) : f_X8_draw (x + 44) τ = some (lot (zI τ 801 (x + 44)), sI τ 801 (x + 44) (dr (zI τ 801 (x + 44)))) := by
  have h2 : CInv x (sI τ 801 (x + 44) (dr (zI τ 801 (x + 44)))) := h
  have e : zirem (zI τ 801 (x + 44) * nI 2741 + nI 10007) (nI 65536) = some (dr (zI τ 801 (x + 44))) := if_neg nz65536
  have e2 : zidiv (dr (zI τ 801 (x + 44))) (nI 8) = some (dr (zI τ 801 (x + 44)) / nI 8) := if_neg nz8
  have e3 : zirem (dr (zI τ 801 (x + 44)) / nI 8) (nI 16) = some (lot (zI τ 801 (x + 44))) := if_neg nz16
  unfold f_X8_draw
  simp only [xi_44 h, bind_s, lI, e, xp_44 h, xi_44 h2, r_II, and_self, if_true, e2, e3]
theorem p_slips (hc : CInv x σ) (h : CRn x T bl σ τ (st, n, dn, ms, sl, tl, mi, d) ov) (b : Option Nat) (sw : Int32) : ∃ τ', f_X8_slips (x + 44) (rTw b) sw τ = some (bI (slp bl sw (isTwo b) d).1, τ') ∧ CRn x T bl σ τ' (st, n, dn, ms, sl, tl, mi, (slp bl sw (isTwo b) d).2) ov := by
  have c1 : CInv x τ := h.1.cinv hc
  have h9 : zI τ 809 (x + 44) = bI bl := h.2.2.2.1
  have h1 : zI τ 801 (x + 44) = d := h.2.1.1
  unfold f_X8_slips f_X8_slips_J38
  by_cases hb : bl = true ∧ nI 0 < sw
  · obtain ⟨hb1, hb2⟩ := hb
    subst hb1
    have d1 := p_draw c1
    rw [h1] at d1
    have hs1 := h.s801 (dr d)
    have c2 : CInv x (sI τ 801 (x + 44) (dr d)) := c1
    have d2 := p_draw c2
    rw [r_II, if_pos ⟨rfl, rfl⟩] at d2
    have hs2 := hs1.s801 (dr (dr d))
    have h92 : zI (sI τ 801 (x + 44) (dr d)) 809 (x + 44) = nI 1 := hs1.2.2.2.1
    have h9' : zI τ 809 (x + 44) = nI 1 := h9
    have c3 : CInv x (sI (sI τ 801 (x + 44) (dr d)) 801 (x + 44) (dr (dr d))) := c1
    unfold slp
    rw [if_pos ⟨rfl, hb2⟩]
    -- one turn
    have t1 : loopC (fun y : (Int32 × Int32 × ZT) => f_X8_slips_L5 (x + 44) (rTw b) sw y.1 y.2.1 y.2.2) (nI 0, nI 0, τ) = loopC (fun y : (Int32 × Int32 × ZT) => f_X8_slips_L5 (x + 44) (rTw b) sw y.1 y.2.1 y.2.2) (bI (decide (lot d < sw)), nI 1, sI τ 801 (x + 44) (dr d)) := by
      rw [loopC_step]
      have hlt : (nI 0 < rTw b) = True := by
        unfold rTw
        split <;> exact eq_true (by decide)
      show Option.bind (f_X8_slips_L5 (x + 44) (rTw b) sw (nI 0) (nI 0) τ) _ = _
      unfold f_X8_slips_L5 f_X8_slips_J32_5
      simp only [lI, hlt, if_true, xi_44 c1, bind_s, h9', n1n0, if_false, hb2, xv_44 c1, d1, bnd2_s]
      by_cases hd : lot d < sw
      · rw [if_pos hd, decide_eq_true hd]; rfl
      · rw [if_neg hd, decide_eq_false hd]; rfl
    cases b with
    | none =>
      refine ⟨sI τ 801 (x + 44) (dr d), ?_, hs1⟩
      simp only [lI, t1]
      rw [loopC_step]
      show Option.bind (Option.bind (f_X8_slips_L5 (x + 44) (nI 1) sw (bI (decide (lot d < sw))) (nI 1) (sI τ 801 (x + 44) (dr d))) _) _ = _
      unfold f_X8_slips_L5
      rw [if_neg (show ¬ nI 1 < nI 1 by decide)]
      simp only [bind_s, rz_bI]
      rfl
    | some q =>
      refine ⟨sI (sI τ 801 (x + 44) (dr d)) 801 (x + 44) (dr (dr d)), ?_, hs2⟩
      simp only [lI, t1]
      have t2 : loopC (fun y : (Int32 × Int32 × ZT) => f_X8_slips_L5 (x + 44) (rTw (some q)) sw y.1 y.2.1 y.2.2) (bI (decide (lot d < sw)), nI 1, sI τ 801 (x + 44) (dr d)) = loopC (fun y : (Int32 × Int32 × ZT) => f_X8_slips_L5 (x + 44) (rTw (some q)) sw y.1 y.2.1 y.2.2) (bI (decide (lot d < sw) || decide (lot (dr d) < sw)), nI 2, sI (sI τ 801 (x + 44) (dr d)) 801 (x + 44) (dr (dr d))) := by
        rw [loopC_step]
        show Option.bind (f_X8_slips_L5 (x + 44) (nI 2) sw (bI (decide (lot d < sw))) (nI 1) (sI τ 801 (x + 44) (dr d))) _ = _
        unfold f_X8_slips_L5 f_X8_slips_J32_5
        rw [if_pos (show nI 1 < nI 2 by decide)]
        simp only [lI, xi_44 c2, bind_s, h92, n1n0, if_false, hb2, if_true, xv_44 c2, d2, bnd2_s]
        by_cases hd : lot (dr d) < sw
        · rw [if_pos hd, decide_eq_true hd, Bool.or_true]; rfl
        · rw [if_neg hd, decide_eq_false hd, Bool.or_false]; rfl
      rw [t2, loopC_step]
      show Option.bind (Option.bind (f_X8_slips_L5 (x + 44) (nI 2) sw _ (nI 2) _) _) _ = _
      unfold f_X8_slips_L5
      rw [if_neg (show ¬ nI 2 < nI 2 by decide)]
      simp only [bind_s, rz_bI]
      rfl
  · have hsl : slp bl sw (isTwo b) d = (false, d) := by
      unfold slp
      rw [if_neg hb]
    rw [hsl]
    refine ⟨τ, ?_, h⟩
    have t1 : loopC (fun y : (Int32 × Int32 × ZT) => f_X8_slips_L5 (x + 44) (rTw b) sw y.1 y.2.1 y.2.2) (nI 0, nI 0, τ) = some (nI 0, τ) := by
      rw [loopC_step]
      have hlt : (nI 0 < rTw b) = True := by
        unfold rTw
        split <;> exact eq_true (by decide)
      show Option.bind (f_X8_slips_L5 (x + 44) (rTw b) sw (nI 0) (nI 0) τ) _ = _
      unfold f_X8_slips_L5
      simp only [lI, hlt, if_true, xi_44 c1, bind_s, h9]
      cases bl with
      | false => rfl
      | true =>
        have hn : ¬ nI 0 < sw := fun hh => hb ⟨rfl, hh⟩
        simp [bI, n1n0, hn]
    simp only [lI, t1, bind_s, rz]
    rfl
end
