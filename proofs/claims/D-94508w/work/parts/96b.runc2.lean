set_option maxRecDepth 100000
section
variable {x m t : Nat} {σ σ' σ'' τ : ZT} {T : Nat → Int32} {B P O : Nat → Nat} {bl ov : Bool} {w : Ot} {st : St} {n dn : Nat} {ms sl tl mi d : Int32}
/-- what a run stands on, the component's side -/
def RB (x : Nat) (σ : ZT) (t : Nat) (T : Nat → Int32) (B P O : Nat → Nat) (w : Ot) : Prop := CInv x σ ∧ tOK x t ∧ SP σ (x + 45) (x + 52) (x + 53) t T B P O ∧ TW T ∧ OtE (zI σ 503 (x + 45), zI σ 504 (x + 45), zI σ 505 (x + 45)) w ∧ zI σ 503 (x + 45) = mI
theorem CRn.base (h : CRn x T bl σ τ (st, n, dn, ms, sl, tl, mi, d) ov) (hb : RB x σ t T B P O w) : CInv x τ ∧ SP τ (x + 45) (x + 52) (x + 53) t T B P O ∧ (zI τ 503 (x + 45), zI τ 504 (x + 45), zI τ 505 (x + 45)) = (zI σ 503 (x + 45), zI σ 504 (x + 45), zI σ 505 (x + 45)) := by
  obtain ⟨hc, ht, sp, hT, hw, h5⟩ := hb
  refine ⟨h.1.cinv hc, h.1.sp hc ht sp, ?_⟩
  rw [h.1.2.2.2.2.2.2.2.1 _ _ (by omega), h.1.2.2.2.2.2.2.2.1 _ _ (by omega), h.1.2.2.2.2.2.2.2.1 _ _ (by omega)]
theorem p_finish (hb : RB x σ t T B P O w) (h : CRn x T bl σ τ (st, n, dn, ms, sl, tl, mi, d) false) : ∃ τ', f_X8_finish (x + 44) τ = some τ' ∧ CRn x T bl σ τ' (st, n, dn + 1, ms, sl, tl, mi, d) (sDone T st.1) := by
  have hs := h.s803 (dn + 1)
  obtain ⟨c1, -, -⟩ := h.base hb
  obtain ⟨c2, sp2, -⟩ := hs.base hb
  have hT := hb.2.2.2.1
  have e3 : zI τ 803 (x + 44) = nI dn := h.2.1.2.2.1
  have e8 : zI (sI τ 803 (x + 44) (nI (dn + 1))) 808 (x + 44) = nI 0 := hs.2.2.1
  have hd := p_isDone sp2 hT
  have hag : Agr T (zAI (sI τ 803 (x + 44) (nI (dn + 1))) (x + 52), zAI (sI τ 803 (x + 44) (nI (dn + 1))) (x + 53)) st := hs.2.2.2.2
  have hag2 : sDone T (zAI (sI τ 803 (x + 44) (nI (dn + 1))) (x + 52)) = sDone T st.1 := hag.done
  rw [hag2] at hd
  have hz : ∀ b : Bool, pZ 8 808 (x + 44) (bI b) (sI τ 803 (x + 44) (nI (dn + 1))) = some (sI (sI τ 803 (x + 44) (nI (dn + 1))) 808 (x + 44) (bI b)) := fun b => if_pos ⟨xk_44 c2, bI_01 b⟩
  refine ⟨_, ?_, hs.s808 (sDone T st.1)⟩
  unfold f_X8_finish f_X8_finish_J28 f_X8_finish_J33
  have e31 : nI dn + (1 : Int32) = nI (dn + 1) := by
    show nI dn + nI 1 = _
    rw [nI_add]
  rw [xi_44 c1, bind_s, e3, e31, xp_44 c1, bind_s, xi_44 c2, bind_s, e8, if_pos (show nI 0 = 0 from rfl), xr_800_44 c2, bind_s, xv_45 c2, hd, bnd2_s]
  cases sDone T st.1 with
  | false =>
    rw [if_pos (show bI false = 0 from rfl)]
    show Option.bind (pZ 8 808 (x + 44) (bI false) _) _ = _
    rw [hz false]
    rfl
  | true =>
    rw [if_neg (show ¬ bI true = 0 by decide)]
    show Option.bind (pZ 8 808 (x + 44) (bI true) _) _ = _
    rw [hz true]
    rfl
theorem pos_nI {k : Nat} (h : k < 2 ^ 31) : ((0 : Int32) < nI k) = (0 < k) := nlt (a := 0) (by decide) h
theorem OtE.symm {w w' : Ot} (h : OtE w w') : OtE w' w := ⟨h.1.symm, fun p hp => (h.2 p hp).symm⟩
theorem goS_SV (hT : TW T) (hw : w.1 = mI) {v : Mv} (hv : MvW T v) (hS : SV T st) : SV T (goS T w bl v (st, n, dn, ms, sl, tl, mi, d)).1.1 := by
  unfold goS
  by_cases h2 : v.1 < 2
  · obtain ⟨g4, br, g5, g6⟩ := hv.2.1 h2
    rw [if_pos h2, g5]
    have n8 := hT.2.2.1
    show SV T (if 0 < sWhy T st.1 st.2 w.1 w.2.1 w.2.2 v.2.1 v.2.2.1 br then _ else _ : Rs × Bool).1.1
    by_cases hy : 0 < sWhy T st.1 st.2 w.1 w.2.1 w.2.2 v.2.1 v.2.2.1 br
    · rw [if_pos hy]; exact hS
    · rw [if_neg hy]
      by_cases hs : (slp bl (T (14 + 9 * br + 8)) (isTwo v.2.2.1) d).1 = true
      · rw [if_pos hs]; exact hS
      · rw [if_neg hs]
        have hm : sMv T w v st = some (sGo T st.1 v.2.1 v.2.2.1 br, st.2) := by
          unfold sMv
          rw [if_pos h2, g5]
          show (if nI br = w.1 then none else if 0 < sWhy T st.1 st.2 w.1 w.2.1 w.2.2 v.2.1 v.2.2.1 br then none else some (sGo T st.1 v.2.1 v.2.2.1 br, st.2)) = _
          rw [if_neg (fun hh => by rw [hw, nI_mI (by omega)] at hh; exact hh), if_neg hy]
        exact hS.mv hT hv hm
  · rw [if_neg h2]
    cases hm : sMv T w v st with
    | none => exact hS
    | some r => exact hS.mv hT hv hm
theorem p_move (hb : RB x σ t T B P O w) {v : Mv} (hv : MvW T v) (h3 : v.1 < 4) (h0 : v.1 = 0 → v.2.2.1 = none) (h1 : v.1 = 1 → ∃ q, v.2.2.1 = some q) (hS : SV T st) (h : CRn x T bl σ τ (st, n, dn, ms, sl, tl, mi, d) false) : ∃ τ', f_X8_move (x + 44) (nI v.1) (nI v.2.1) (oI v.2.2.1) (oI v.2.2.2) τ = some τ' ∧ CRn x T bl σ τ' (goS T w bl v (st, n, dn, ms, sl, tl, mi, d)).1 (goS T w bl v (st, n, dn, ms, sl, tl, mi, d)).2 := by
  obtain ⟨c1, sp1, ew⟩ := h.base hb
  obtain ⟨hc, ht, sp, hT, hw, h5⟩ := hb
  have hb : RB x σ t T B P O w := ⟨hc, ht, sp, hT, hw, h5⟩
  have hag : Agr T (zAI τ (x + 52), zAI τ (x + 53)) st := h.2.2.2.2
  have hSc : SV T (zAI τ (x + 52), zAI τ (x + 53)) := hS.agr hag.symm
  have n8 := hT.2.2.1
  unfold f_X8_move goS
  by_cases h2 : v.1 < 2
  · obtain ⟨g4, br, g5, g6⟩ := hv.2.1 h2
    have nb : ¬ nI br = zI τ 503 (x + 45) := fun hh => by
      have e : zI τ 503 (x + 45) = zI σ 503 (x + 45) := h.1.2.2.2.2.2.2.2.1 _ _ (by omega)
      rw [e, h5, nI_mI (by omega)] at hh
      exact hh
    rw [if_pos h2, g5]
    have hwy := p_why sp1 hT hSc hv.1 (fun q hq => (g4 q hq).1) g6
    rw [sWhC_eq _ _ _ _ _ _ _ _ _ nb] at hwy
    have ewy : sWhy T (zAI τ (x + 52)) (zAI τ (x + 53)) (zI τ 503 (x + 45)) (zI τ 504 (x + 45)) (zI τ 505 (x + 45)) v.2.1 v.2.2.1 br = sWhy T st.1 st.2 w.1 w.2.1 w.2.2 v.2.1 v.2.2.1 br := by
      have e1 := hag.why (zI τ 503 (x + 45)) (zI τ 504 (x + 45)) (zI τ 505 (x + 45)) br hv.1 (fun q hq => (g4 q hq).1)
      have e2 := hw.why hT st.1 st.2 v.2.1 v.2.2.1 g6
      have e3 : sWhy T st.1 st.2 (zI τ 503 (x + 45)) (zI τ 504 (x + 45)) (zI τ 505 (x + 45)) v.2.1 v.2.2.1 br = sWhy T st.1 st.2 (zI σ 503 (x + 45)) (zI σ 504 (x + 45)) (zI σ 505 (x + 45)) v.2.1 v.2.2.1 br := by
        have a1 := congrArg (fun p : Ot => p.1) ew
        have a2 := congrArg (fun p : Ot => p.2.1) ew
        have a3 := congrArg (fun p : Ot => p.2.2) ew
        have a1 : zI τ 503 (x + 45) = zI σ 503 (x + 45) := a1
        have a2 : zI τ 504 (x + 45) = zI σ 504 (x + 45) := a2
        have a3 : zI τ 505 (x + 45) = zI σ 505 (x + 45) := a3
        rw [a1, a2, a3]
      exact e1.trans (e3.trans e2)
    rw [ewy] at hwy
    have hwl : sWhy T st.1 st.2 w.1 w.2.1 w.2.2 v.2.1 v.2.2.1 br < 5 := by
      unfold sWhy
      repeat' split
      all_goals omega
    -- both ways of the call are one
    have hent : f_X8_move (x + 44) (nI v.1) (nI v.2.1) (oI v.2.2.1) (oI (some br)) τ = f_X8_move_J53 (x + 44) (nI v.1) (nI v.2.1) (oI v.2.2.1) (nI br) (oI v.2.2.1) (nI v.2.1) (x + 45) τ := by
      unfold f_X8_move
      have hn1 : ¬ 1 < v.1 := by omega
      have hx : v.1 = 0 ∨ v.1 = 1 := by omega
      rcases hx with e | e
      · rw [h0 e, e]
        simp (disch := omega) only [lI, nlt, neq, if_false, xr_800_44 c1, bind_s, mI_eq]
        rfl
      · rw [e]
        simp (disch := omega) only [lI, nlt, neq, if_false, if_true, xr_800_44 c1, bind_s]
        rfl
    have hent' : (if (1 : Int32) < nI v.1 then (gR 8 800 (x + 44) τ).bind fun v2 => bnd2 (vc 5 v2 τ (f_X5_moves v2 (nI v.1) (nI v.2.1) (oI v.2.2.1) (oI (some br)) τ)) fun v3 σ => if v3 = 0 then ((gI 8 804 (x + 44) σ).bind fun v4 => (pI 8 804 (x + 44) (v4 + (1 : Int32)) σ).bind fun σ => f_X8_move_J37 σ) else ((vc 8 (x + 44) σ (f_X8_finish (x + 44) σ)).bind fun σ => f_X8_move_J37 σ) else (gR 8 800 (x + 44) τ).bind fun v1 => if nI v.1 = (1 : Int32) then f_X8_move_J53 (x + 44) (nI v.1) (nI v.2.1) (oI v.2.2.1) (oI (some br)) (oI v.2.2.1) (nI v.2.1) v1 τ else f_X8_move_J53 (x + 44) (nI v.1) (nI v.2.1) (oI v.2.2.1) (oI (some br)) (-1 : Int32) (nI v.2.1) v1 τ) = f_X8_move_J53 (x + 44) (nI v.1) (nI v.2.1) (oI v.2.2.1) (nI br) (oI v.2.2.1) (nI v.2.1) (x + 45) τ := hent
    rw [hent']
    unfold f_X8_move_J53
    rw [xv_45 c1, hwy, bnd2_s]
    show ∃ τ', (if (0 : Int32) < nI (sWhy T st.1 st.2 w.1 w.2.1 w.2.2 v.2.1 v.2.2.1 br) then _ else _) = _ ∧ CRn x T bl σ τ' (if 0 < sWhy T st.1 st.2 w.1 w.2.1 w.2.2 v.2.1 v.2.2.1 br then _ else _ : Rs × Bool).1 (if 0 < sWhy T st.1 st.2 w.1 w.2.1 w.2.2 v.2.1 v.2.2.1 br then _ else _ : Rs × Bool).2
    by_cases hy : 0 < sWhy T st.1 st.2 w.1 w.2.1 w.2.2 v.2.1 v.2.2.1 br
    · have hy' : (0 : Int32) < nI (sWhy T st.1 st.2 w.1 w.2.1 w.2.2 v.2.1 v.2.2.1 br) := by
        rw [pos_nI (by omega)]; exact hy
      rw [if_pos hy', if_pos hy]
      have e4 : zI τ 804 (x + 44) = ms := h.2.1.2.2.2.1
      refine ⟨_, ?_, h.s804 (ms + nI 1)⟩
      rw [xi_44 c1, bind_s, e4, lI, xp_44 c1, bind_s]
    · have hy' : ¬ (0 : Int32) < nI (sWhy T st.1 st.2 w.1 w.2.1 w.2.2 v.2.1 v.2.2.1 br) := by
        rw [pos_nI (by omega)]; exact hy
      rw [if_neg hy', if_neg hy]
      -- toll, minutes
      have e6 : zI τ 806 (x + 44) = tl := h.2.1.2.2.2.2.2.1
      have hs1 := h.s806 (tl + T (14 + 9 * br + 6) * rTw v.2.2.1)
      obtain ⟨c2, sp2, -⟩ := hs1.base hb
      have e7 : zI (sI τ 806 (x + 44) (tl + T (14 + 9 * br + 6) * rTw v.2.2.1)) 807 (x + 44) = mi := hs1.2.1.2.2.2.2.2.2
      have hs2 := hs1.s807 (mi + T (14 + 9 * br + 7))
      obtain ⟨c3, sp3, ew3⟩ := hs2.base hb
      obtain ⟨τ4, f1, hs4⟩ := p_slips hc hs2 v.2.2.1 (T (14 + 9 * br + 8))
      obtain ⟨c4, sp4, ew4⟩ := hs4.base hb
      have hJ : f_X8_move_J97 (x + 44) (nI v.1) (nI v.2.1) (oI v.2.2.1) (nI br) (B br) (rTw v.2.2.1) τ = bnd2 (some (bI (slp bl (T (14 + 9 * br + 8)) (isTwo v.2.2.1) d).1, τ4)) (fun v17 σ => if v17 = 0 then ((gR 8 800 (x + 44) σ).bind fun v18 => bnd2 (vc 5 v18 σ (f_X5_moves v18 (nI v.1) (nI v.2.1) (oI v.2.2.1) (nI br) σ)) fun v19 σ => (vc 8 (x + 44) σ (f_X8_finish (x + 44) σ)).bind fun σ => some σ) else ((gI 8 805 (x + 44) σ).bind fun v21 => (pI 8 805 (x + 44) (v21 + (1 : Int32)) σ).bind fun σ => some σ)) := by
        unfold f_X8_move_J97
        rw [xi_44 c1, bind_s, e6, tb1107 sp1 g6, bind_s, xp_44 c1, bind_s, xi_44 c2, bind_s, e7, tb1108 sp2 g6, bind_s, xp_44 c2, bind_s, tb1109 sp3 g6, bind_s, xv_44 c3, f1]
      have hmany : (if nI v.1 = (1 : Int32) then f_X8_move_J97 (x + 44) (nI v.1) (nI v.2.1) (oI v.2.2.1) (nI br) (B br) (2 : Int32) τ else f_X8_move_J97 (x + 44) (nI v.1) (nI v.2.1) (oI v.2.2.1) (nI br) (B br) (1 : Int32) τ) = f_X8_move_J97 (x + 44) (nI v.1) (nI v.2.1) (oI v.2.2.1) (nI br) (B br) (rTw v.2.2.1) τ := by
        have hx : v.1 = 0 ∨ v.1 = 1 := by omega
        rcases hx with e | e
        · rw [h0 e, e, if_neg (by decide)]; rfl
        · obtain ⟨q, hq⟩ := h1 e
          rw [hq, e, if_pos (by decide)]; rfl
      rw [xr_800_44 c1, bind_s, p500 sp1, bind_s, t606 sp1, bind_s, tlb sp1 g6 (by omega), bind_s, hmany, hJ, bnd2_s]
      by_cases hsl : (slp bl (T (14 + 9 * br + 8)) (isTwo v.2.2.1) d).1 = true
      · rw [if_pos hsl, hsl, if_neg (show ¬ bI true = 0 by decide)]
        have e5 : zI τ4 805 (x + 44) = sl := hs4.2.1.2.2.2.2.1
        refine ⟨_, ?_, hs4.s805 (sl + nI 1)⟩
        rw [xi_44 c4, bind_s, e5, lI, xp_44 c4, bind_s]
      · have hsl' : (slp bl (T (14 + 9 * br + 8)) (isTwo v.2.2.1) d).1 = false := by simpa using hsl
        rw [if_neg hsl, hsl', if_pos (show bI false = 0 from rfl)]
        have hag4 : Agr T (zAI τ4 (x + 52), zAI τ4 (x + 53)) st := hs4.2.2.2.2
        have hS4 : SV T (zAI τ4 (x + 52), zAI τ4 (x + 53)) := hS.agr hag4.symm
        have hmv := p_moves sp4 hT hS4 hv h3 h0 h1
        rw [ew4, hw.mv hT hv] at hmv
        have hw1 : w.1 = mI := by rw [← hw.1]; exact h5
        have hm : sMv T w v st = some (sGo T st.1 v.2.1 v.2.2.1 br, st.2) := by
          unfold sMv
          rw [if_pos h2, g5]
          show (if nI br = w.1 then none else if 0 < sWhy T st.1 st.2 w.1 w.2.1 w.2.2 v.2.1 v.2.2.1 br then none else some (sGo T st.1 v.2.1 v.2.2.1 br, st.2)) = _
          rw [if_neg (fun hh => by rw [hw1, nI_mI (by omega)] at hh; exact hh), if_neg hy]
        rcases hag4.mv w hv with ⟨m1, m2⟩ | ⟨r1, r2, m1, m2, m3⟩
        · rw [hm] at m2; cases m2
        · rw [hm] at m2
          cases m2
          rw [m1, g5] at hmv
          have hmv : f_X5_moves (x + 45) (nI v.1) (nI v.2.1) (oI v.2.2.1) (nI br) τ4 = some (nI 1, CN (x + 52) (x + 53) τ4 r1) := hmv
          have hs5 := hs4.cn m3
          obtain ⟨c5, -, -⟩ := hs5.base hb
          obtain ⟨τ6, f6, hs6⟩ := p_finish hb hs5
          refine ⟨τ6, ?_, hs6⟩
          rw [xr_800_44 c4, bind_s, xv_45 c4, hmv, bnd2_s, xv_44 c5, f6, bind_s]
  · rw [if_neg h2]
    have hmv := p_moves sp1 hT hSc hv h3 h0 h1
    rw [ew, hw.mv hT hv] at hmv
    have hbig : (1 : Int32) < nI v.1 := by
      have e : ((1 : Int32) < nI v.1) = (1 < v.1) := nlt (a := 1) (by decide) (by omega)
      rw [e]; omega
    rw [if_pos hbig, xr_800_44 c1, bind_s, xv_45 c1]
    rcases hag.mv w hv with ⟨m1, m2⟩ | ⟨r1, r2, m1, m2, m3⟩
    · have m2 : sMv T w v st = none := m2
      rw [m1] at hmv
      have hmv : f_X5_moves (x + 45) (nI v.1) (nI v.2.1) (oI v.2.2.1) (oI v.2.2.2) τ = some (nI 0, τ) := hmv
      have e4 : zI τ 804 (x + 44) = ms := h.2.1.2.2.2.1
      have m2' : sMv T w v (st, n, dn, ms, sl, tl, mi, d).1 = _ := m2
      rw [m2', hmv, bnd2_s, if_pos (show nI 0 = 0 from rfl)]
      refine ⟨_, ?_, h.s804 (ms + nI 1)⟩
      unfold f_X8_move_J37
      rw [xi_44 c1, bind_s, e4, lI, xp_44 c1, bind_s]
    · have m2 : sMv T w v st = some r2 := m2
      rw [m1] at hmv
      have hmv : f_X5_moves (x + 45) (nI v.1) (nI v.2.1) (oI v.2.2.1) (oI v.2.2.2) τ = some (nI 1, CN (x + 52) (x + 53) τ r1) := hmv
      have hs5 := h.cn m3
      obtain ⟨c5, -, -⟩ := hs5.base hb
      obtain ⟨τ6, f6, hs6⟩ := p_finish hb hs5
      have m2' : sMv T w v (st, n, dn, ms, sl, tl, mi, d).1 = _ := m2
      rw [m2', hmv, bnd2_s, if_neg (show ¬ nI 1 = 0 by decide)]
      refine ⟨τ6, ?_, hs6⟩
      unfold f_X8_move_J37
      rw [xv_44 c5, f6, bind_s]
end
