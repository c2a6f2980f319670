set_option maxRecDepth 100000
section
variable {m : Nat} {σ σ' σ'' τ : ZT} {T : Nat → Int32} {bl : Bool} {w : Ot} {st : St} {n dn : Nat} {ms sl tl mi d : Int32}
theorem slp_two (bl : Bool) (sw d : Int32) : slp bl sw true d = ((slp bl sw false d).1 || (slp bl sw false (slp bl sw false d).2).1, (slp bl sw false (slp bl sw false d).2).2) := by
  unfold slp
  by_cases h : bl = true ∧ nI 0 < sw
  · simp [h]
  · simp [h]
/-- two, or one, go over a bridge by the orders -/
theorem q_over (hb : RM m σ T w) (h : MRn m T bl σ τ (st, n, dn, ms, sl, tl, mi, d)) {v : Mv} (hv : MvW T v) (h2 : v.1 < 2) {br : Nat} (hbr : v.2.2.2 = some br) : ∃ τ' r, f_X9_ordersOver m (nI v.2.1) (oI v.2.2.1) (nI br) τ = some (bI r, τ') ∧ ((0 < sWhy T st.1 st.2 w.1 w.2.1 w.2.2 v.2.1 v.2.2.1 br ∧ r = false ∧ τ' = τ) ∨ (¬ 0 < sWhy T st.1 st.2 w.1 w.2.1 w.2.2 v.2.1 v.2.2.1 br ∧ r = true ∧ MRn m T bl σ τ' (goS T w bl v (st, n, dn, ms, sl, tl, mi, d)).1)) := by
  obtain ⟨i1, eT, ew⟩ := h.base hb
  have hT := hb.2.2.1
  have n8 := hT.2.2.1
  have n4 := hT.2.2.2.1
  obtain ⟨g4, br', g5, g6⟩ := hv.2.1 h2
  rw [hbr] at g5
  cases g5
  have hva := hv.1
  have hag : Agr T (zAI τ (m + 9), zAI τ (m + 10)) st := h.2.2.2
  have hwy := q_whyNot i1 (by rw [eT]; exact hT) (a := v.2.1) (b := v.2.2.1) (br := br) (by rw [eT]; exact hv.1) (fun q hq => by rw [eT]; exact (g4 q hq).1) (by rw [eT]; exact g6)
  have e1 := hag.why (zI τ 926 m) (zI τ 928 m) (zI τ 927 m) br hv.1 (fun q hq => (g4 q hq).1)
  have e1 : sWhy T (zAI τ (m + 9)) (zAI τ (m + 10)) (zI τ 926 m) (zI τ 928 m) (zI τ 927 m) v.2.1 v.2.2.1 br = _ := e1
  rw [eT, e1, ew.1, ew.2.1, ew.2.2] at hwy
  have hwl : sWhy T st.1 st.2 w.1 w.2.1 w.2.2 v.2.1 v.2.2.1 br < 5 := by
    unfold sWhy
    repeat' split
    all_goals omega
  have hip := q_isPerson i1 (by rw [eT]; exact hT) (nI v.2.1)
  rw [eT, ok_nI (by omega) hv.1] at hip
  have hib := q_isBridge i1 (by rw [eT]; exact hT) (nI br)
  rw [eT, ok_nI (by omega) g6] at hib
  have hent : f_X9_ordersOver m (nI v.2.1) (oI v.2.2.1) (nI br) τ = f_X9_ordersOver_J22 m (nI v.2.1) (oI v.2.2.1) (nI br) τ := by
    unfold f_X9_ordersOver
    cases hq : v.2.2.1 with
    | none => simp (disch := first | exact i1 | omega) [mvc, hip, bI, bnd2_s, lI, n1n0, mI_eq, oI]
    | some q =>
      obtain ⟨q1, q2⟩ := g4 q hq
      have ht2 := q_areTwo i1 (by rw [eT]; exact hT) (nI v.2.1) (nI q)
      rw [eT, ok_nI (by omega) hv.1, ok_nI (by omega) q1] at ht2
      have hne : ¬ nI v.2.1 = nI q := by rw [neq (by omega) (by omega)]; exact Ne.symm q2
      rw [decide_eq_false hne] at ht2
      have hnm : ¬ nI q = mI := fun hh => by rw [nI_mI (by omega)] at hh; exact hh
      have ht2 : f_X9_areTwo m (nI v.2.1) (nI q) τ = some (nI 1, τ) := ht2
      simp (disch := first | exact i1 | omega) [mvc, hip, bI, bnd2_s, lI, n1n0, mI_eq, oI, hnm, ht2]
  rw [hent]
  unfold f_X9_ordersOver_J22
  by_cases hy : 0 < sWhy T st.1 st.2 w.1 w.2.1 w.2.2 v.2.1 v.2.2.1 br
  · refine ⟨τ, false, ?_, Or.inl ⟨hy, rfl, rfl⟩⟩
    have hy' : (nI 0 < nI (sWhy T st.1 st.2 w.1 w.2.1 w.2.2 v.2.1 v.2.2.1 br)) = True := by
      rw [nlt (by omega) (by omega)]; exact eq_true hy
    unfold f_X9_ordersOver_J40
    simp (disch := first | exact i1 | omega) only [mvc, hib, bI, bnd2_s, lI, n1n0, if_true, if_false, hwy, hy']
    rfl
  · have hy' : (nI 0 < nI (sWhy T st.1 st.2 w.1 w.2.1 w.2.2 v.2.1 v.2.2.1 br)) = False := by
      rw [nlt (by omega) (by omega)]; exact eq_false hy
    have e6 : zI τ 946 m = tl := h.2.1.2.2.2.2.2.1
    have hob : ∀ k, k < 9 → ∀ u, MInv m u → zAI u (m + 1) = T → f_X9_ofBridge m (nI br) (nI k) u = some (T (14 + 9 * br + k), u) := by
      intro k hk u iu eu
      unfold f_X9_ofBridge
      simp (disch := first | exact iu | omega) only [mR900, bind_s, lI, nI_add, pk_mul, ml_at, eu]
    have hs1 := h.s946 (tl + T (14 + 9 * br + 6) * rTw v.2.2.1)
    obtain ⟨i2, eT2, -⟩ := hs1.base hb
    have e7 : zI (sI τ 946 m (tl + T (14 + 9 * br + 6) * rTw v.2.2.1)) 947 m = mi := hs1.2.1.2.2.2.2.2.2
    have hs2 := hs1.s947 (mi + T (14 + 9 * br + 7))
    obtain ⟨i3, eT3, -⟩ := hs2.base hb
    obtain ⟨τ4, f4, hs4⟩ := q_slips hb hs2 g6
    obtain ⟨i4, eT4, ew4⟩ := hs4.base hb
    have hJ22 : (bnd2 (vc 9 m τ (f_X9_isBridge m (nI br) τ)) fun v3 σ => if v3 = 0 then f_X9_ordersOver_J40 σ else bnd2 (vc 9 m σ (f_X9_whyNot m (nI v.2.1) (oI v.2.2.1) (nI br) σ)) fun v4 σ => if 0 < v4 then f_X9_ordersOver_J40 σ else (gI 9 946 m σ).bind fun v5 => bnd2 (vc 9 m σ (f_X9_ofBridge m (nI br) (6 : Int32) σ)) fun v6 σ => if oI v.2.2.1 = (-1 : Int32) then f_X9_ordersOver_J64 m (nI v.2.1) (oI v.2.2.1) (nI br) (1 : Int32) v6 v5 m σ else f_X9_ordersOver_J64 m (nI v.2.1) (oI v.2.2.1) (nI br) (2 : Int32) v6 v5 m σ) = f_X9_ordersOver_J64 m (nI v.2.1) (oI v.2.2.1) (nI br) (rTw v.2.2.1) (T (14 + 9 * br + 6)) tl m τ := by
      have hob6 := hob 6 (by omega) τ i1 eT
      cases hq : v.2.2.1 with
      | none =>
        rw [hq] at hwy hy'
        simp (disch := first | exact i1 | omega) only [mvc, hib, bI, bnd2_s, bind_s, lI, n1n0, if_true, if_false, oI, mI_eq, mgI, e6, hob6] at hwy ⊢
        simp (disch := first | exact i1 | omega) only [hwy, bnd2_s, hy', if_false, bind_s, mgI, e6, mvc, hob6]
        rfl
      | some q =>
        obtain ⟨q1, q2⟩ := g4 q hq
        have hnm : ¬ nI q = mI := fun hh => by rw [nI_mI (by omega)] at hh; exact hh
        rw [hq] at hwy hy'
        simp (disch := first | exact i1 | omega) only [mvc, hib, bI, bnd2_s, bind_s, lI, n1n0, if_true, if_false, oI, mI_eq, mgI, e6, hob6, hnm] at hwy ⊢
        simp (disch := first | exact i1 | omega) only [hwy, bnd2_s, hy', if_false, bind_s, mgI, e6, mvc, hob6, hnm]
        rfl
    rw [hJ22]
    have hob7 := hob 7 (by omega) _ i2 eT2
    have hgoS : goS T w bl v (st, n, dn, ms, sl, tl, mi, d) = if (slp bl (T (14 + 9 * br + 8)) (isTwo v.2.2.1) d).1 = true then ((st, n, dn, ms, sl + nI 1, tl + T (14 + 9 * br + 6) * rTw v.2.2.1, mi + T (14 + 9 * br + 7), (slp bl (T (14 + 9 * br + 8)) (isTwo v.2.2.1) d).2), false) else (((sGo T st.1 v.2.1 v.2.2.1 br, st.2), n, dn + 1, ms, sl, tl + T (14 + 9 * br + 6) * rTw v.2.2.1, mi + T (14 + 9 * br + 7), (slp bl (T (14 + 9 * br + 8)) (isTwo v.2.2.1) d).2), sDone T (sGo T st.1 v.2.1 v.2.2.1 br)) := by
      unfold goS
      rw [if_pos h2, hbr]
      show (if 0 < sWhy T st.1 st.2 w.1 w.2.1 w.2.2 v.2.1 v.2.2.1 br then _ else _) = _
      rw [if_neg hy]
    rw [hgoS]
    -- the end, when all was drawn
    have fin : ∀ (τ5 : ZT) (S : Bool) (d5 : Int32), MRn m T bl σ τ5 (st, n, dn, ms, sl, tl + T (14 + 9 * br + 6) * rTw v.2.2.1, mi + T (14 + 9 * br + 7), d5) → ∃ τ6, f_X9_ordersOver_J117 m (nI v.2.1) (oI v.2.2.1) (nI br) (bI S) τ5 = some (nI 1, τ6) ∧ MRn m T bl σ τ6 (if S = true then ((st, n, dn, ms, sl + nI 1, tl + T (14 + 9 * br + 6) * rTw v.2.2.1, mi + T (14 + 9 * br + 7), d5), false) else (((sGo T st.1 v.2.1 v.2.2.1 br, st.2), n, dn + 1, ms, sl, tl + T (14 + 9 * br + 6) * rTw v.2.2.1, mi + T (14 + 9 * br + 7), d5), sDone T (sGo T st.1 v.2.1 v.2.2.1 br)) : Rs × Bool).1 := by
      intro τ5 S d5 hs5
      obtain ⟨i5, eT5, -⟩ := hs5.base hb
      unfold f_X9_ordersOver_J117 f_X9_ordersOver_J161
      cases S with
      | true =>
        have e5 : zI τ5 945 m = sl := hs5.2.1.2.2.2.2.1
        refine ⟨_, ?_, hs5.s945 (sl + nI 1)⟩
        simp (disch := first | exact i5 | omega) [bI, lI, n1n0, mgI, e5, mpI]
      | false =>
        have e3 : zI τ5 943 m = nI dn := hs5.2.1.2.2.1
        have hs6 := hs5.s943 (dn + 1)
        obtain ⟨i6, eT6, -⟩ := hs6.base hb
        have hag6 : Agr T (zAI (sI τ5 943 m (nI (dn + 1))) (m + 9), zAI (sI τ5 943 m (nI (dn + 1))) (m + 10)) st := hs6.2.2.2
        have hc1 := q_crosses i6 (by rw [eT6]; exact hT) (a := v.2.1) (br := br) (by rw [eT6]; exact hv.1) (by rw [eT6]; exact g6)
        rw [eT6] at hc1
        -- the state set
        have hnl : ∀ r9 : Nat → Int32, sAIr (sI τ5 943 m (nI (dn + 1))) (m + 9) r9 = NL m (sI τ5 943 m (nI (dn + 1))) (r9, zAI (sI τ5 943 m (nI (dn + 1))) (m + 10)) := by
          intro r9
          have := NL_set9 (m := m) (σ := sI τ5 943 m (nI (dn + 1))) (zAI (sI τ5 943 m (nI (dn + 1))) (m + 9), zAI (sI τ5 943 m (nI (dn + 1))) (m + 10)) r9
          rw [NL_self] at this
          exact this
        have hgo : Agr T (sGo T (zAI (sI τ5 943 m (nI (dn + 1))) (m + 9)) v.2.1 v.2.2.1 br, zAI (sI τ5 943 m (nI (dn + 1))) (m + 10)) (sGo T st.1 v.2.1 v.2.2.1 br, st.2) := by
          refine ⟨fun p hp => ?_, hag6.2⟩
          show sGo T (zAI (sI τ5 943 m (nI (dn + 1))) (m + 9)) v.2.1 v.2.2.1 br p = sGo T st.1 v.2.1 v.2.2.1 br p
          have ea := hag6.1 v.2.1 hv.1
          have ea : zAI (sI τ5 943 m (nI (dn + 1))) (m + 9) v.2.1 = st.1 v.2.1 := ea
          unfold sGo
          cases hq : v.2.2.1 with
          | none => exact up_agr (n := fn T 2) hag6.1 (by rw [ea]) p hp
          | some q =>
            have eq := hag6.1 q (g4 q hq).1
            have eq : zAI (sI τ5 943 m (nI (dn + 1))) (m + 9) q = st.1 q := eq
            exact up_agr (n := fn T 2) (up_agr (n := fn T 2) hag6.1 (by rw [ea])) (by rw [eq]) p hp
        refine ⟨_, ?_, hs6.nl hgo⟩
        rw [← hnl]
        cases hq : v.2.2.1 with
        | none =>
          simp (disch := first | exact i5 | exact i6 | omega) [bI, lI, mgI, e3, nI_add, mpI, mvc, hc1, mI_eq, oI, sGo]
        | some q =>
          obtain ⟨q1, q2⟩ := g4 q hq
          have hnm : ¬ nI q = mI := fun hh => by rw [nI_mI (by omega)] at hh; exact hh
          have i7 : MInv m (sAIr (sI τ5 943 m (nI (dn + 1))) (m + 9) (up (zAI (sI τ5 943 m (nI (dn + 1))) (m + 9)) v.2.1 (sOth T br (zAI (sI τ5 943 m (nI (dn + 1))) (m + 9) v.2.1)))) := i6
          have eT7 : zAI (sAIr (sI τ5 943 m (nI (dn + 1))) (m + 9) (up (zAI (sI τ5 943 m (nI (dn + 1))) (m + 9)) v.2.1 (sOth T br (zAI (sI τ5 943 m (nI (dn + 1))) (m + 9) v.2.1)))) (m + 1) = T := by
            rw [zAIr_ne _ (by omega)]; exact eT6
          have hc2 := q_crosses i7 (by rw [eT7]; exact hT) (a := q) (br := br) (by rw [eT7]; exact q1) (by rw [eT7]; exact g6)
          rw [eT7, zAIr_at, sAIr_sAIr] at hc2
          have eup : up (zAI (sI τ5 943 m (nI (dn + 1))) (m + 9)) v.2.1 (sOth T br (zAI (sI τ5 943 m (nI (dn + 1))) (m + 9) v.2.1)) q = zAI (sI τ5 943 m (nI (dn + 1))) (m + 9) q := by
            unfold up
            rw [if_neg q2]
          rw [eup] at hc2
          simp (disch := first | exact i5 | exact i6 | exact i7 | omega) [bI, lI, mgI, e3, nI_add, mpI, mvc, hc1, mI_eq, oI, hnm, hc2, sGo]
    unfold f_X9_ordersOver_J64
    cases hq : v.2.2.1 with
    | none =>
      obtain ⟨τ6, k1, k2⟩ := fin τ4 (slp bl (T (14 + 9 * br + 8)) false d).1 _ hs4
      rw [hq] at k1 k2 f4 e7 i2 i3 hob7
      refine ⟨τ6, true, ?_, Or.inr ⟨by rw [hq] at hy; exact hy, rfl, ?_⟩⟩
      · have k1 : f_X9_ordersOver_J117 m (nI v.2.1) mI (nI br) (bI (slp bl (T (14 + 9 * br + 8)) false d).1) τ4 = some (nI 1, τ6) := k1
        simp (disch := first | exact i1 | exact i2 | exact i3 | omega) only [mpI, bind_s, mgI, e7, mvc, lI, hob7, bnd2_s, f4, mI_eq, oI, if_true, k1]
        rfl
      · exact k2
    | some q =>
      obtain ⟨q1, q2⟩ := g4 q hq
      have hnm : ¬ nI q = mI := fun hh => by rw [nI_mI (by omega)] at hh; exact hh
      obtain ⟨τ5, f5, hs5⟩ := q_slips hb hs4 g6
      obtain ⟨i5, eT5, -⟩ := hs5.base hb
      obtain ⟨τ6, k1, k2⟩ := fin τ5 (slp bl (T (14 + 9 * br + 8)) true d).1 (slp bl (T (14 + 9 * br + 8)) true d).2 (by rw [slp_two]; exact hs5)
      rw [hq] at k1 k2 f4 e7 i2 i3 hob7
      refine ⟨τ6, true, ?_, Or.inr ⟨by rw [hq] at hy; exact hy, rfl, k2⟩⟩
      have k1 : f_X9_ordersOver_J117 m (nI v.2.1) (nI q) (nI br) (bI (slp bl (T (14 + 9 * br + 8)) true d).1) τ5 = some (nI 1, τ6) := k1
      rw [slp_two] at k1
      unfold f_X9_ordersOver_J110 f_X9_ordersOver_J115
      simp (disch := first | exact i1 | exact i2 | exact i3 | exact i4 | omega) only [mpI, bind_s, mgI, e7, mvc, lI, hob7, bnd2_s, f4, mI_eq, oI, hnm, if_false, f5]
      generalize (slp bl (T (14 + 9 * br + 8)) false d).1 = s1 at k1 ⊢
      generalize (slp bl (T (14 + 9 * br + 8)) false (slp bl (T (14 + 9 * br + 8)) false d).2).1 = s2 at k1 ⊢
      cases s1 <;> cases s2 <;> exact k1
end
